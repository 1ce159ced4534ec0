/-! places of a file that was read through; what the rules give -/
section Place
set_option maxRecDepth 100000
theorem skI_ok {n : Nat} : ∀ (k p : Nat) {q : Nat}, skI n k p = .ok q → q = p + 2 * k ∧ (p ≤ n → q ≤ n) := by
  intro k
  induction k with
  | zero =>
    intro p q h
    cases h
    exact ⟨by omega, id⟩
  | succ k ih =>
    intro p q h
    have h : eb (itS n p 2) (fun _ => skI n k (p + 2)) = .ok q := h
    obtain ⟨_, h1, h2⟩ := eb_inv h
    have := itS_ok h1
    have h3 := ih (p + 2) h2
    exact ⟨by omega, fun _ => h3.2 (by omega)⟩
/-- how the file lies -/
def FO (F : Nat → Int32) (n : Nat) (r : FR) : Prop := PG (F, n, r.1, r.2.1) ∧ 10 ≤ r.2.2.1 ∧ r.2.2.2.1 = r.2.2.1 + 8 + 2 * U2 F (r.2.2.1 + 6) ∧ r.2.2.2.1 ≤ n ∧ membS F n r.2.2.2.1 = .ok r.2.2.2.2.1 ∧ membS F n r.2.2.2.2.1 = .ok r.2.2.2.2.2 ∧ attrS F n r.2.2.2.2.2 = .ok n
theorem fileS_FO {F : Nat → Int32} {n : Nat} {r : FR} (hn : n ≤ 1300) (h : fileS F n = .ok r) : FO F n r := by
  rw [fileS_eq] at h
  obtain ⟨_, h1, h⟩ := eb_inv h
  split at h
  · cases h
  unfold file49 at h
  obtain ⟨_, h2, h⟩ := eb_inv h
  obtain ⟨_, h3, h⟩ := eb_inv h
  split at h
  · cases h
  rename_i hb
  unfold file117 at h
  obtain ⟨_, h4, h⟩ := eb_inv h
  split at h
  · cases h
  rename_i h0
  unfold fileT at h
  obtain ⟨⟨q, A, T⟩, h5, h⟩ := eb_inv h
  obtain ⟨⟨z1, z2, z3⟩, h6, h⟩ := eb_inv h
  cases h
  have h10 := itS_ok h4
  obtain ⟨d1, d2, d3, d4, d5, d6⟩ := rpS_ok _ _ _ _ _ h5 h10 (Nat.le_refl _) (fun _ _ => rfl) (fun i hi => absurd rfl hi) (by omega) (by omega)
  unfold fileM at h6
  obtain ⟨_, e1, h6⟩ := eb_inv h6
  obtain ⟨_, e2, h6⟩ := eb_inv h6
  obtain ⟨_, e3, h6⟩ := eb_inv h6
  obtain ⟨_, e4, h6⟩ := eb_inv h6
  obtain ⟨q1, e5, h6⟩ := eb_inv h6
  obtain ⟨⟨y1, y2⟩, e6, h6⟩ := eb_inv h6
  cases h6
  have e4 := itS_ok e4
  have e5 := skI_ok _ _ e5
  unfold tailS at e6
  obtain ⟨q2, f1, e6⟩ := eb_inv e6
  obtain ⟨q3, f2, e6⟩ := eb_inv e6
  obtain ⟨q4, f3, e6⟩ := eb_inv e6
  split at e6
  case isFalse => cases e6
  rename_i hq
  cases e6
  subst hq
  refine ⟨⟨hn, by show 10 ≤ q4; omega, d3, d6 0 (by omega), d4, by show 3 * U2 F 8 + 7 ≤ q4; omega, by show 45 ≤ U2 F 6; omega, by show U2 F 6 ≤ 61; omega, by show 1 ≤ U2 F 8; omega⟩, d2, e5.1, e5.2 (by omega), f1, f2, f3⟩
theorem mFQ_mPo {F : Nat → Int32} {n : Nat} {r : FR} {σ : SM} (h : mFQ F n r σ) : (∃ N S, mPo (F, n, r.1, r.2.1) N S σ) ∧ σ.1 54 = nI r.2.2.1 ∧ σ.1 55 = nI r.2.2.2.1 ∧ σ.1 56 = nI r.2.2.2.2.1 ∧ σ.1 57 = nI r.2.2.2.2.2 := by
  obtain ⟨⟨a1, a2, a3, a4, a5, N, S, b1, b2, b3, b4⟩, h2⟩ := h
  refine ⟨⟨N, S, ⟨a1, a3, a4, a5⟩, b1, fun i hi => ⟨(b4 i hi).1, fun ht => ?_⟩⟩, h2⟩
  have hA : r.1 i ≠ 0 := fun z => by
    have ht : tgS F (r.1 i) = 1 := ht
    rw [z] at ht
    exact absurd ht (by unfold tgS; rw [if_pos rfl]; decide)
  have hU : U1 F (r.1 i) = 1 := by
    have ht : tgS F (r.1 i) = 1 := ht
    unfold tgS at ht
    rw [if_neg hA] at ht
    exact ht
  exact (b4 i hi).2 hA hU
/-- no rule for an entry is broken -/
def RG (P : PD) : Prop := ∀ i, i < ctP P → ruleS P i = 0
theorem RG_of {P : PD} (g : PG P) (h : cpS P (ctP P - 1) 1 = .ok ()) : RG P := by
  intro i hi
  by_cases z : i = 0
  · refine ruleS_0 ?_
    rw [z]
    unfold tgP
    rw [g.2.2.2.1]
    rfl
  · have := g.2.2.2.2.2.2.2.2
    exact cpS_ok _ _ h i (by omega) (by omega)
def clT (P : PD) (e : Nat) : List Nat := txP P (paP P e)
theorem ClassS_pos {t : List Nat} (h : ClassS t) : 0 < t.length := by
  rcases h with h | h
  · exact h.1
  · refine Nat.pos_of_ne_zero fun z => ?_
    have h2 := h.2
    rw [z] at h2
    exact h2 rfl
variable {P : PD} {e : Nat}
theorem RG.z (r : RG P) (g : PG P) (ht : tgP P e ≠ 0) : ruleS P e = 0 := r e (g.in ht).2.1
theorem RG.cl (r : RG P) (g : PG P) (ht : tgP P e = 7) : isCl P e ∧ ClassS (clT P e) ∧ 0 < (clT P e).length := by
  have h := r.z g (e := e) (by omega)
  unfold ruleS rl1 at h
  rw [if_pos (by omega)] at h
  by_cases q : tgP P (paP P e) = 1
  · rw [if_pos q, if_pos ht] at h
    by_cases w : ClassS (txP P (paP P e))
    · exact ⟨⟨ht, q⟩, w, ClassS_pos w⟩
    · rw [ci_f w] at h
      omega
  · rw [if_neg q] at h
    omega
theorem RG.pr (r : RG P) (g : PG P) (ht : 9 ≤ tgP P e ∧ tgP P e ≤ 11) : isCl P (paP P e) ∧ isPr P (pbP P e) ∧ (tgP P e = 9 → FieldS (tyP P e)) ∧ (tgP P e ≠ 9 → placesS (tyP P e) ≠ none) := by
  have h := r.z g (e := e) (by omega)
  unfold ruleS rl9 at h
  rw [if_neg (by omega), if_neg (by omega), if_pos ht] at h
  by_cases q : isCl P (paP P e) ∧ isPr P (pbP P e)
  · rw [ci_t q] at h
    refine ⟨q.1, q.2, fun h9 => ?_, fun h9 => ?_⟩
    · rw [if_pos h9] at h
      exact Classical.byContradiction fun w => by
        rw [ci_f w] at h
        omega
    · rw [if_neg h9] at h
      exact Classical.byContradiction fun w => by
        rw [ci_f (fun z => w z.1)] at h
        omega
  · rw [ci_f q] at h
    omega
theorem RG.dy (r : RG P) (g : PG P) (ht : tgP P e = 17 ∨ tgP P e = 18) : isPr P (pbP P e) ∧ (tgP P e = 17 → FieldS (tyP P e)) ∧ (tgP P e = 18 → placesS (tyP P e) ≠ none) := by
  have h := r.z g (e := e) (by omega)
  unfold ruleS rl17 at h
  rw [if_neg (by omega), if_neg (by omega), if_neg (by omega), if_neg (by omega), if_pos ht] at h
  by_cases q : isPr P (pbP P e)
  · rw [ci_t q] at h
    refine ⟨q, fun h17 => ?_, fun h18 => ?_⟩
    · rw [if_pos h17] at h
      exact Classical.byContradiction fun w => by
        rw [ci_f (fun z => w z.1)] at h
        omega
    · rw [if_neg (by omega)] at h
      exact Classical.byContradiction fun w => by
        rw [ci_f (fun z => w z.1)] at h
        omega
  · rw [ci_f q] at h
    omega
end Place
