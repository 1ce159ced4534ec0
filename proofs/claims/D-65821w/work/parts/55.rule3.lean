/-! the rules for an entry: the component's checkPool -/
section Rule3
set_option maxRecDepth 100000
section X
variable {P : PD} {c lo fu i : Nat} {N : Nat → Prop} {σ : GS}
theorem x_rl15 (h : xPc P c lo N σ) (hL : xLi N σ) (g : PG P) (hfu : 131072 < fu) (ht : tgP P i = 15) {x1 : Int32} : x_ruleOfEntry_362 fu σ c x1 (nI (tgP P i)) (nI (paP P i)) (nI (pbP P i)) = some (nI (rl15 P i)) := by
  have hpb := pbP_lt P i
  have hc := ctP_lt P
  have hl := tgP_lt P (pbP P i)
  have t0 : P.2.2.1 (pbP P i) = 0 → tgP P (pbP P i) = 0 := fun z => by unfold tgP; rw [z]; rfl
  unfold x_ruleOfEntry_362 rl15
  rw [if_pos (by rw [ht]; rfl)]
  by_cases h0 : pbP P i = 0
  · rw [if_pos (show nI (pbP P i) = 0 by rw [h0]; rfl), if_pos (t0 (by rw [h0]; exact g.2.2.2.1))]
    rfl
  rw [if_neg (nL (k := 0) (by omega) (by omega) h0), ckT_ok h.1.1, h.1.2.2.2]
  by_cases h1 : ctP P ≤ pbP P i
  · rw [if_pos (nI_le h1 (by omega)), if_pos (t0 (g.2.2.1 _ h1))]
    rfl
  rw [if_neg (nI_ge (by omega) (by omega)), h.2.1.1, ckK_ok h.2.2.1.1, h.2.2.2.1.1, ckIn_n (by omega) (by omega), ckIn_n (by omega) (by omega), ckIn_n (by omega) (by omega), nI_clamp (by omega), (x_tg h (by omega)).1]
  by_cases t1 : tgP P (pbP P i) = 0
  · rw [if_pos (show nI (tgP P (pbP P i)) = 0 by rw [t1]; rfl), if_pos t1]
    rfl
  rw [if_neg (nL (k := 0) (by omega) (by omega) t1), if_neg t1]
  by_cases t9 : tgP P (pbP P i) < 9
  · rw [if_pos (show nI (tgP P (pbP P i)) < (9 : Int32) from nI_lt (b := 9) t9 (by omega)), ci_f (fun w => by have := w.1; omega)]
    exact x_rl431 h hL g hfu (by omega) (fun w => by omega)
  rw [if_neg (show ¬ nI (tgP P (pbP P i)) < (9 : Int32) from nI_nlt (b := 9) (by omega) (by omega))]
  by_cases t11 : 11 < tgP P (pbP P i)
  · rw [if_pos (show (11 : Int32) < nI (tgP P (pbP P i)) from nI_lt (a := 11) t11 (by omega)), ci_f (fun w => by have := w.2.1; omega)]
    exact x_rl431 h hL g hfu (by omega) (fun _ w => by omega)
  rw [if_neg (show ¬ (11 : Int32) < nI (tgP P (pbP P i)) from nI_nlt (a := 11) (by omega) (by omega)), x_isWhole_ok h g (by omega), Option.bind_some]
  by_cases q : isCl P (paP P (pbP P i)) ∧ isPr P (pbP P (pbP P i))
  · rw [ib_t q, ci_f (fun w => w.2.2 q)]
    exact x_rl431 h hL g hfu (by omega) (fun _ _ => q.2)
  · rw [ib_f q, ci_t ⟨by omega, by omega, q⟩]
    rfl
theorem x_ruleOfEntry_ok (h : xPc P c lo N σ) (hL : xLi N σ) (g : PG P) (hfu : 131072 < fu) (hi : i < ctP P) : x_ruleOfEntry fu σ c (nI i) = some (nI (ruleS P i)) := by
  have hc := ctP_lt P
  have hl := tgP_lt P i
  obtain ⟨e1, e2, e3, -⟩ := x_tg h hi
  unfold x_ruleOfEntry x_ruleOfEntry_0 ruleS
  rw [ckT_ok h.1.1, h.2.1.1, ckK_ok h.2.2.1.1, h.2.2.2.1.1, ckIn_n hi (by omega), nx_eq, nI_clamp (by omega), h.2.1.2.1, ckK_ok h.2.2.1.2.1, h.2.2.2.1.2.1, ckIn_n hi (by omega), nx_eq, h.2.1.2.2.1, ckK_ok h.2.2.1.2.2.1, h.2.2.2.1.2.2.1, ckIn_n hi (by omega), nx_eq, e1, e2, e3]
  by_cases h1 : oneT (tgP P i)
  · have e : ∀ o1 o2 : Option Int32, (if nI (tgP P i) = (7 : Int32) then o1 else if nI (tgP P i) = (8 : Int32) then o1 else if nI (tgP P i) = (16 : Int32) then o1 else if nI (tgP P i) = (19 : Int32) then o1 else if nI (tgP P i) = (20 : Int32) then o1 else o2) = o1 := by
      intro o1 o2
      rcases h1 with z | z | z | z | z <;> rw [z] <;> rfl
    rw [e, if_pos h1]
    exact x_rl1 h hL g hfu h1
  rw [if_neg (nL (k := 7) (by omega) (by omega) (by omega)), if_neg (nL (k := 8) (by omega) (by omega) (by omega)), if_neg (nL (k := 16) (by omega) (by omega) (by omega)), if_neg (nL (k := 19) (by omega) (by omega) (by omega)), if_neg (nL (k := 20) (by omega) (by omega) (by omega)), if_neg h1]
  by_cases h12 : tgP P i = 12
  · rw [if_pos (show nI (tgP P i) = (12 : Int32) by rw [h12]; rfl), if_pos h12]
    exact x_rl12 h hL g hfu
  rw [if_neg (nL (k := 12) (by omega) (by omega) h12), if_neg h12]
  by_cases h9 : 9 ≤ tgP P i ∧ tgP P i ≤ 11
  · rw [if_neg (show ¬ nI (tgP P i) < (9 : Int32) from nI_nlt (b := 9) h9.1 (by omega)), if_neg (show ¬ (11 : Int32) < nI (tgP P i) from nI_nlt (a := 11) h9.2 (by omega)), if_pos h9]
    exact x_rl9 h hL g hfu hi
  have e362 : ∀ o : Option Int32, (if nI (tgP P i) < (9 : Int32) then x_ruleOfEntry_362 fu σ c (nI i) (nI (tgP P i)) (nI (paP P i)) (nI (pbP P i)) else if (11 : Int32) < nI (tgP P i) then x_ruleOfEntry_362 fu σ c (nI i) (nI (tgP P i)) (nI (paP P i)) (nI (pbP P i)) else o) = x_ruleOfEntry_362 fu σ c (nI i) (nI (tgP P i)) (nI (paP P i)) (nI (pbP P i)) := by
    intro o
    by_cases z : tgP P i < 9
    · rw [if_pos (show nI (tgP P i) < (9 : Int32) from nI_lt (b := 9) z (by omega))]
    · rw [if_neg (show ¬ nI (tgP P i) < (9 : Int32) from nI_nlt (b := 9) (by omega) (by omega)), if_pos (show (11 : Int32) < nI (tgP P i) from nI_lt (a := 11) (by omega) (by omega))]
  rw [e362, if_neg h9]
  by_cases h15 : tgP P i = 15
  · rw [if_pos h15]
    exact x_rl15 h hL g hfu h15
  unfold x_ruleOfEntry_362
  rw [if_neg (nL (k := 15) (by omega) (by omega) h15), if_neg h15]
  by_cases h17 : tgP P i = 17 ∨ tgP P i = 18
  · have e : ∀ o1 o2 : Option Int32, (if nI (tgP P i) = (17 : Int32) then o1 else if nI (tgP P i) = (18 : Int32) then o1 else o2) = o1 := by
      intro o1 o2
      rcases h17 with z | z <;> rw [z] <;> rfl
    rw [e, if_pos h17]
    exact x_rl17 h hL g hfu hi h17
  rw [if_neg (nL (k := 17) (by omega) (by omega) (by omega)), if_neg (nL (k := 18) (by omega) (by omega) (by omega)), if_neg h17]
  rfl
end X
theorem ci_le {Q : Prop} {a b k : Nat} (ha : a ≤ k) (hb : b ≤ k) : ci Q a b ≤ k := by
  by_cases q : Q
  · rw [ci_t q]; exact ha
  · rw [ci_f q]; exact hb
theorem ruleS_le (P : PD) (i : Nat) : ruleS P i ≤ 14 := by
  unfold ruleS rl1 rl12 rl9 rl15 rl17
  repeat' (first | split | refine ci_le ?_ ?_)
  all_goals omega
theorem ruleS_0 {P : PD} {i : Nat} (h : tgP P i = 0) : ruleS P i = 0 := by
  unfold ruleS
  rw [if_neg (by omega), if_neg (by omega), if_neg (by omega), if_neg (by omega), if_neg (by omega)]
/-- the pool is right -/
noncomputable def cpS (P : PD) : Nat → Nat → FE Unit
  | 0, _ => .ok ()
  | d + 1, k => if ruleS P k = 0 then cpS P d (k + 1) else .error (ruleS P k, P.2.2.1 k)
theorem cpS_ok {P : PD} : ∀ d k, cpS P d k = .ok () → ∀ i, k ≤ i → i < k + d → ruleS P i = 0 := by
  intro d
  induction d with
  | zero => intro k _ i h1 h2; omega
  | succ d ih =>
    intro k h i h1 h2
    unfold cpS at h
    split at h
    · rename_i z
      rcases Nat.lt_or_ge k i with w | w
      · exact ih (k + 1) h i (by omega) (by omega)
      · rw [show i = k by omega]
        exact z
    · cases h
def xE (x0 : Nat) (σ : GS) (E : FE Unit) : Option (Int32 × GS) := match E with
  | .ok _ => some (1, σ)
  | .error e => some (0, xwr σ x0 e.1 e.2)
def mE (σ : SM) (E : FE Unit) : Option (Int32 × SM) := match E with
  | .ok _ => some (1, σ)
  | .error e => some (0, mwr σ e.1 e.2)
theorem x_cp_loop {P : PD} {x0 c lo hd fa fu : Nat} {N : Nat → Prop} {σ : GS} (h : xP P x0 c lo N hd fa σ) (hL : xLi N σ) (g : PG P) (h8 : Z8 x0 σ) (hfu : 131072 < fu) : ∀ d k f, k + d = ctP P → d < f → x_checkPool_2L fu f σ x0 c (nI k) = xE x0 σ (cpS P d k) := by
  have hc := ctP_lt P
  intro d
  induction d with
  | zero =>
    intro k f hk hf
    obtain ⟨f, rfl⟩ : ∃ z9, f = z9 + 1 := ⟨f - 1, by omega⟩
    show x_checkPool_2 fu (x_checkPool_2L fu f) σ x0 c (nI k) = _
    unfold x_checkPool_2 cpS
    rw [ckT_ok h.1.1.1, h.1.1.2.2.2, if_pos (nI_le (by omega) (by omega))]
    rfl
  | succ d ih =>
    intro k f hk hf
    obtain ⟨f, rfl⟩ : ∃ z9, f = z9 + 1 := ⟨f - 1, by omega⟩
    have hr := ruleS_le P k
    show x_checkPool_2 fu (x_checkPool_2L fu f) σ x0 c (nI k) = _
    unfold x_checkPool_2 cpS
    rw [ckT_ok h.1.1.1, h.1.1.2.2.2, if_neg (nI_ge (by omega) (by omega)), x_ruleOfEntry_ok h.1 hL g hfu (by omega), Option.bind_some]
    by_cases z : ruleS P k = 0
    · rw [if_pos (show nI (ruleS P k) ≤ 0 by rw [z]; decide), if_pos z, nx_eq, nI_1]
      exact ih (k + 1) f (by omega) (by omega)
    · have ht : tgP P k ≠ 0 := fun w => z (ruleS_0 w)
      obtain ⟨p1, p2, p3, ⟨p4, p5, p6, p7⟩, p8, -⟩ := h
      rw [if_neg (show ¬ nI (ruleS P k) ≤ 0 from nI_ge (a := 0) (by omega) (by omega)), if_neg z, ckT_ok p2.1, p4, ckK_ok p5, p6, ckIn_n (by omega) (by omega), nI_clamp (by omega), p8 k ht, x_wrong_ok p2.1 h8, Option.bind_some, ckN_0]
      rfl
theorem x_checkPool_ok {P : PD} {x0 c lo hd fa fu : Nat} {N : Nat → Prop} {σ : GS} (h : xP P x0 c lo N hd fa σ) (hL : xLi N σ) (g : PG P) (h8 : Z8 x0 σ) (hfu : 131072 < fu) : x_checkPool fu σ x0 c = xE x0 σ (cpS P (ctP P - 1) 1) := by
  have hc := ctP_lt P
  have h1 := g.2.2.2.2.2.2.2.2
  exact x_cp_loop h hL g h8 hfu (ctP P - 1) 1 fu (by omega) (by omega)
end Rule3
