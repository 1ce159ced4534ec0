/-! the rules for an entry: the twin -/
section Rule4
set_option maxRecDepth 100000
variable {P : PD} {N k fu : Nat} {S : Nat → List Nat} {σ : SM}
theorem nbi {a k : Nat} (ha : a < 2 ^ 31) (hk : k < 2 ^ 31) : (if nI a = no_index (OfNat.ofNat k) then some (1 : Int32) else some 0) = some (bi (a = k)) := by
  by_cases h : a = k
  · rw [if_pos (by rw [h]; rfl), bi_t h]
  · rw [if_neg (nL ha hk h), bi_f h]
theorem m_i7_c (h : mPo P N S σ) (g : PG P) (ht : tgP P k = 7) {x3 : Int32} : m_indexes_c σ (nI k) 7 x3 = some (bi (tgP P (paP P k) = 1)) := by
  unfold m_indexes_c m_indexes_c_0 m_indexes_c_30
  rw [if_pos rfl, m_ix1 h g (Or.inl (by omega)), Option.bind_some, m_tag_ok h g (paP_lt P k), Option.bind_some]
  exact nbi (k := 1) (by have := tgP_lt P (paP P k); omega) (by omega)
theorem m_i12_c (h : mPo P N S σ) (g : PG P) (ht : tgP P k = 12) {x3 : Int32} : m_indexes_c σ (nI k) 12 x3 = some (bi (tgP P (paP P k) = 1 ∧ tgP P (pbP P k) = 1)) := by
  have h1 := tgP_lt P (paP P k)
  have h2 := tgP_lt P (pbP P k)
  unfold m_indexes_c m_indexes_c_0 m_indexes_c_130 m_indexes_c_168
  rw [if_neg (by decide), if_neg (by decide), if_neg (by decide), if_neg (by decide), if_neg (by decide), if_neg (by decide), if_pos (by decide), if_pos rfl, m_ix1 h g (Or.inr (by omega)), Option.bind_some, m_tag_ok h g (paP_lt P k), Option.bind_some, m_ix3 h g (by omega), Option.bind_some, m_tag_ok h g (pbP_lt P k), Option.bind_some]
  by_cases q1 : tgP P (paP P k) = 1
  · rw [if_pos (show nI (tgP P (paP P k)) = (1 : Int32) by rw [q1]; rfl), nbi (k := 1) (by omega) (by omega)]
    exact congrArg some (bi_iff ⟨fun w => ⟨q1, w⟩, fun w => w.2⟩)
  · rw [if_neg (nL (k := 1) (by omega) (by omega) q1), bi_f (fun w => q1 w.1)]
theorem m_i7_b (h : mPo P N S σ) (g : PG P) (ht : tgP P k = 7) {x3 : Int32} : m_indexes_b σ (nI k) 7 x3 = some (bi (tgP P (paP P k) = 1)) := by
  unfold m_indexes_b m_indexes_b_0 m_indexes_b_30
  rw [if_pos rfl, m_ix1 h g (Or.inl (by omega)), Option.bind_some, m_tag_ok h g (paP_lt P k), Option.bind_some]
  exact nbi (k := 1) (by have := tgP_lt P (paP P k); omega) (by omega)
theorem m_i12_b (h : mPo P N S σ) (g : PG P) (ht : tgP P k = 12) {x3 : Int32} : m_indexes_b σ (nI k) 12 x3 = some (bi (tgP P (paP P k) = 1 ∧ tgP P (pbP P k) = 1)) := by
  have h1 := tgP_lt P (paP P k)
  have h2 := tgP_lt P (pbP P k)
  unfold m_indexes_b m_indexes_b_0 m_indexes_b_130 m_indexes_b_168
  rw [if_neg (by decide), if_neg (by decide), if_neg (by decide), if_neg (by decide), if_neg (by decide), if_neg (by decide), if_pos (by decide), if_pos rfl, m_ix1 h g (Or.inr (by omega)), Option.bind_some, m_tag_ok h g (paP_lt P k), Option.bind_some, m_ix3 h g (by omega), Option.bind_some, m_tag_ok h g (pbP_lt P k), Option.bind_some]
  by_cases q1 : tgP P (paP P k) = 1
  · rw [if_pos (show nI (tgP P (paP P k)) = (1 : Int32) by rw [q1]; rfl), nbi (k := 1) (by omega) (by omega)]
    exact congrArg some (bi_iff ⟨fun w => ⟨q1, w⟩, fun w => w.2⟩)
  · rw [if_neg (nL (k := 1) (by omega) (by omega) q1), bi_f (fun w => q1 w.1)]
theorem m_i7 (h : mPo P N S σ) (g : PG P) (ht : tgP P k = 7) {x3 : Int32} : m_indexes σ (nI k) 7 x3 = some (bi (tgP P (paP P k) = 1)) := by
  unfold m_indexes m_indexes_0 m_indexes_30
  rw [if_pos rfl, m_ix1 h g (Or.inl (by omega)), Option.bind_some, m_tag_ok h g (paP_lt P k), Option.bind_some]
  exact nbi (k := 1) (by have := tgP_lt P (paP P k); omega) (by omega)
theorem m_i12 (h : mPo P N S σ) (g : PG P) (ht : tgP P k = 12) {x3 : Int32} : m_indexes σ (nI k) 12 x3 = some (bi (tgP P (paP P k) = 1 ∧ tgP P (pbP P k) = 1)) := by
  have h1 := tgP_lt P (paP P k)
  have h2 := tgP_lt P (pbP P k)
  unfold m_indexes m_indexes_0 m_indexes_130 m_indexes_168
  rw [if_neg (by decide), if_neg (by decide), if_neg (by decide), if_neg (by decide), if_neg (by decide), if_neg (by decide), if_pos (by decide), if_pos rfl, m_ix1 h g (Or.inr (by omega)), Option.bind_some, m_tag_ok h g (paP_lt P k), Option.bind_some, m_ix3 h g (by omega), Option.bind_some, m_tag_ok h g (pbP_lt P k), Option.bind_some]
  by_cases q1 : tgP P (paP P k) = 1
  · rw [if_pos (show nI (tgP P (paP P k)) = (1 : Int32) by rw [q1]; rfl), nbi (k := 1) (by omega) (by omega)]
    exact congrArg some (bi_iff ⟨fun w => ⟨q1, w⟩, fun w => w.2⟩)
  · rw [if_neg (nL (k := 1) (by omega) (by omega) q1), bi_f (fun w => q1 w.1)]
theorem m_i9_b (h : mPo P N S σ) (g : PG P) (ht : 9 ≤ tgP P k ∧ tgP P k ≤ 11) {x3 : Int32} : m_indexes_b σ (nI k) (nI (tgP P k)) x3 = some (bi (isCl P (paP P k) ∧ isPr P (pbP P k))) := by
  have h1 := tgP_lt P (paP P k)
  have h2 := tgP_lt P (pbP P k)
  unfold m_indexes_b m_indexes_b_0 m_indexes_b_128
  rw [if_neg (nL (k := 7) (by omega) (by omega) (by omega)), if_neg (nL (k := 8) (by omega) (by omega) (by omega)), if_neg (nL (k := 16) (by omega) (by omega) (by omega)), if_neg (nL (k := 19) (by omega) (by omega) (by omega)), if_neg (nL (k := 20) (by omega) (by omega) (by omega)), if_neg (show ¬ nI (tgP P k) < (9 : Int32) from nI_nlt (b := 9) ht.1 (by omega)), if_neg (show ¬ (11 : Int32) < nI (tgP P k) from nI_nlt (a := 11) ht.2 (by omega)), m_ix1 h g (Or.inr (by omega)), Option.bind_some, m_tag_ok h g (paP_lt P k), Option.bind_some]
  by_cases q1 : tgP P (paP P k) = 7
  case neg => rw [if_neg (nL (k := 7) (by omega) (by omega) q1), bi_f (fun w => q1 w.1.1)]
  rw [if_pos (show nI (tgP P (paP P k)) = (7 : Int32) by rw [q1]; rfl), Option.bind_some, m_i7_c h g q1, Option.bind_some]
  by_cases q2 : tgP P (paP P (paP P k)) = 1
  case neg => rw [ib_f q2, bi_f (fun w => q2 w.1.2)]
  rw [ib_t q2, m_ix3 h g (by omega), Option.bind_some, m_tag_ok h g (pbP_lt P k), Option.bind_some]
  by_cases q3 : tgP P (pbP P k) = 12
  case neg => rw [if_neg (nL (k := 12) (by omega) (by omega) q3), bi_f (fun w => q3 w.2.1)]
  rw [if_pos (show nI (tgP P (pbP P k)) = (12 : Int32) by rw [q3]; rfl), Option.bind_some, m_i12_c h g q3, Option.bind_some]
  by_cases q4 : tgP P (paP P (pbP P k)) = 1 ∧ tgP P (pbP P (pbP P k)) = 1
  · rw [ib_t q4, bi_t ⟨⟨q1, q2⟩, q3, q4⟩]
  · rw [ib_f q4, bi_f (fun w => q4 w.2.2)]
theorem m_i9 (h : mPo P N S σ) (g : PG P) (ht : 9 ≤ tgP P k ∧ tgP P k ≤ 11) {x3 : Int32} : m_indexes σ (nI k) (nI (tgP P k)) x3 = some (bi (isCl P (paP P k) ∧ isPr P (pbP P k))) := by
  have h1 := tgP_lt P (paP P k)
  have h2 := tgP_lt P (pbP P k)
  unfold m_indexes m_indexes_0 m_indexes_128
  rw [if_neg (nL (k := 7) (by omega) (by omega) (by omega)), if_neg (nL (k := 8) (by omega) (by omega) (by omega)), if_neg (nL (k := 16) (by omega) (by omega) (by omega)), if_neg (nL (k := 19) (by omega) (by omega) (by omega)), if_neg (nL (k := 20) (by omega) (by omega) (by omega)), if_neg (show ¬ nI (tgP P k) < (9 : Int32) from nI_nlt (b := 9) ht.1 (by omega)), if_neg (show ¬ (11 : Int32) < nI (tgP P k) from nI_nlt (a := 11) ht.2 (by omega)), m_ix1 h g (Or.inr (by omega)), Option.bind_some, m_tag_ok h g (paP_lt P k), Option.bind_some]
  by_cases q1 : tgP P (paP P k) = 7
  case neg => rw [if_neg (nL (k := 7) (by omega) (by omega) q1), bi_f (fun w => q1 w.1.1)]
  rw [if_pos (show nI (tgP P (paP P k)) = (7 : Int32) by rw [q1]; rfl), Option.bind_some, m_i7_b h g q1, Option.bind_some]
  by_cases q2 : tgP P (paP P (paP P k)) = 1
  case neg => rw [ib_f q2, bi_f (fun w => q2 w.1.2)]
  rw [ib_t q2, m_ix3 h g (by omega), Option.bind_some, m_tag_ok h g (pbP_lt P k), Option.bind_some]
  by_cases q3 : tgP P (pbP P k) = 12
  case neg => rw [if_neg (nL (k := 12) (by omega) (by omega) q3), bi_f (fun w => q3 w.2.1)]
  rw [if_pos (show nI (tgP P (pbP P k)) = (12 : Int32) by rw [q3]; rfl), Option.bind_some, m_i12_b h g q3, Option.bind_some]
  by_cases q4 : tgP P (paP P (pbP P k)) = 1 ∧ tgP P (pbP P (pbP P k)) = 1
  · rw [ib_t q4, bi_t ⟨⟨q1, q2⟩, q3, q4⟩]
  · rw [ib_f q4, bi_f (fun w => q4 w.2.2)]

/-- whether an entry's indexes are right -/
def ok9 (P : PD) (i : Nat) : Prop := if oneT (tgP P i) then tgP P (paP P i) = 1 else if tgP P i = 12 then tgP P (paP P i) = 1 ∧ tgP P (pbP P i) = 1 else if 9 ≤ tgP P i ∧ tgP P i ≤ 11 then isCl P (paP P i) ∧ isPr P (pbP P i) else if tgP P i = 15 then tgP P (pbP P i) ≠ 0 ∧ ¬ (9 ≤ tgP P (pbP P i) ∧ tgP P (pbP P i) ≤ 11 ∧ ¬ (isCl P (paP P (pbP P i)) ∧ isPr P (pbP P (pbP P i)))) else if tgP P i = 17 ∨ tgP P i = 18 then isPr P (pbP P i) else True
theorem m_indexes_ok (h : mPo P N S σ) (g : PG P) {x3 : Int32} : m_indexes σ (nI k) (nI (tgP P k)) x3 = some (bi (ok9 P k)) := by
  have hl := tgP_lt P k
  have h1 := tgP_lt P (paP P k)
  have h2 := tgP_lt P (pbP P k)
  unfold ok9
  by_cases t1 : oneT (tgP P k)
  · rw [if_pos t1]
    unfold m_indexes m_indexes_0 m_indexes_30
    have e : ∀ o1 o2 : Option Int32, (if nI (tgP P k) = (7 : Int32) then o1 else if nI (tgP P k) = (8 : Int32) then o1 else if nI (tgP P k) = (16 : Int32) then o1 else if nI (tgP P k) = (19 : Int32) then o1 else if nI (tgP P k) = (20 : Int32) then o1 else o2) = o1 := by
      intro o1 o2
      rcases t1 with z | z | z | z | z <;> rw [z] <;> rfl
    rw [e, m_ix1 h g (Or.inl t1), Option.bind_some, m_tag_ok h g (paP_lt P k), Option.bind_some]
    exact nbi (k := 1) (by omega) (by omega)
  rw [if_neg t1]
  by_cases t12 : tgP P k = 12
  · rw [if_pos t12, show nI (tgP P k) = (12 : Int32) by rw [t12]; rfl]
    exact m_i12 h g t12
  rw [if_neg t12]
  by_cases t9 : 9 ≤ tgP P k ∧ tgP P k ≤ 11
  · rw [if_pos t9]
    exact m_i9 h g t9
  rw [if_neg t9]
  unfold m_indexes m_indexes_0
  rw [if_neg (nL (k := 7) (by omega) (by omega) (by omega)), if_neg (nL (k := 8) (by omega) (by omega) (by omega)), if_neg (nL (k := 16) (by omega) (by omega) (by omega)), if_neg (nL (k := 19) (by omega) (by omega) (by omega)), if_neg (nL (k := 20) (by omega) (by omega) (by omega))]
  have e130 : ∀ o : Option Int32, (if nI (tgP P k) < (9 : Int32) then m_indexes_130 σ (nI k) (nI (tgP P k)) else if (11 : Int32) < nI (tgP P k) then m_indexes_130 σ (nI k) (nI (tgP P k)) else o) = m_indexes_130 σ (nI k) (nI (tgP P k)) := by
    intro o
    by_cases z : tgP P k < 9
    · rw [if_pos (show nI (tgP P k) < (9 : Int32) from nI_lt (b := 9) z (by omega))]
    · rw [if_neg (show ¬ nI (tgP P k) < (9 : Int32) from nI_nlt (b := 9) (by omega) (by omega)), if_pos (show (11 : Int32) < nI (tgP P k) from nI_lt (a := 11) (by omega) (by omega))]
  rw [e130]
  unfold m_indexes_130 m_indexes_227 m_indexes_223
  rw [if_neg (nL (k := 12) (by omega) (by omega) t12)]
  by_cases t15 : tgP P k = 15
  · rw [if_pos t15, if_pos (show nI (tgP P k) = (15 : Int32) by rw [t15]; rfl), m_ix2 h g t15, Option.bind_some, m_tag_ok h g (pbP_lt P k), Option.bind_some]
    by_cases q0 : tgP P (pbP P k) = 0
    · rw [if_pos (show nI (tgP P (pbP P k)) = 0 by rw [q0]; rfl), bi_f (fun w => w.1 q0)]
    rw [if_neg (nL (k := 0) (by omega) (by omega) q0)]
    by_cases q9 : tgP P (pbP P k) < 9
    · rw [if_pos (show nI (tgP P (pbP P k)) < (9 : Int32) from nI_lt (b := 9) q9 (by omega)), bi_t ⟨q0, fun w => by have := w.1; omega⟩]
    rw [if_neg (show ¬ nI (tgP P (pbP P k)) < (9 : Int32) from nI_nlt (b := 9) (by omega) (by omega))]
    by_cases q11 : 11 < tgP P (pbP P k)
    · rw [if_pos (show (11 : Int32) < nI (tgP P (pbP P k)) from nI_lt (a := 11) q11 (by omega)), bi_t ⟨q0, fun w => by have := w.2.1; omega⟩]
    rw [if_neg (show ¬ (11 : Int32) < nI (tgP P (pbP P k)) from nI_nlt (a := 11) (by omega) (by omega)), Option.bind_some, m_i9_b h g (by omega), Option.bind_some]
    by_cases q : isCl P (paP P (pbP P k)) ∧ isPr P (pbP P (pbP P k))
    · rw [ib_t q, bi_t ⟨q0, fun w => w.2.2 q⟩]
    · rw [ib_f q, bi_f (fun w => w.2 ⟨by omega, by omega, q⟩)]
  rw [if_neg t15, if_neg (nL (k := 15) (by omega) (by omega) t15)]
  by_cases t17 : tgP P k = 17 ∨ tgP P k = 18
  · have e : ∀ o1 o2 : Option Int32, (if nI (tgP P k) = (17 : Int32) then o1 else if nI (tgP P k) = (18 : Int32) then o1 else o2) = o1 := by
      intro o1 o2
      rcases t17 with z | z <;> rw [z] <;> rfl
    rw [e, if_pos t17]
    unfold m_indexes_241 m_indexes_276
    rw [m_ix3 h g (by omega), Option.bind_some, m_tag_ok h g (pbP_lt P k), Option.bind_some]
    by_cases q3 : tgP P (pbP P k) = 12
    case neg => rw [if_neg (nL (k := 12) (by omega) (by omega) q3), bi_f (fun w => q3 w.1)]
    rw [if_pos (show nI (tgP P (pbP P k)) = (12 : Int32) by rw [q3]; rfl), Option.bind_some, m_i12_b h g q3, Option.bind_some]
    by_cases q4 : tgP P (paP P (pbP P k)) = 1 ∧ tgP P (pbP P (pbP P k)) = 1
    · rw [ib_t q4, bi_t ⟨q3, q4⟩]
    · rw [ib_f q4, bi_f (fun w => q4 w.2)]
  · rw [if_neg t17, if_neg (nL (k := 17) (by omega) (by omega) (by omega)), if_neg (nL (k := 18) (by omega) (by omega) (by omega)), bi_t trivial]
theorem ruleS_9 (h : ¬ ok9 P k) : ruleS P k = 9 := by
  unfold ok9 at h
  unfold ruleS
  split
  · rename_i z
    rw [if_pos z] at h
    unfold rl1
    rw [if_neg h]
  · rename_i z
    rw [if_neg z] at h
    split
    · rename_i z
      rw [if_pos z] at h
      unfold rl12
      rw [if_neg h]
    · rename_i z
      rw [if_neg z] at h
      split
      · rename_i z
        rw [if_pos z] at h
        unfold rl9
        rw [ci_f h]
      · rename_i z
        rw [if_neg z] at h
        split
        · rename_i z
          rw [if_pos z] at h
          unfold rl15
          by_cases w : tgP P (pbP P k) = 0
          · rw [if_pos w]
          · rw [if_neg w, ci_t]
            exact Classical.byContradiction fun q => h ⟨w, q⟩
        · rename_i z
          rw [if_neg z] at h
          split
          · rename_i z
            rw [if_pos z] at h
            unfold rl17
            rw [ci_f h]
          · rename_i z
            rw [if_neg z] at h
            exact absurd trivial h
end Rule4
