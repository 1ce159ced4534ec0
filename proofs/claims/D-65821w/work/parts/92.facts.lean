/-! what holds of a class that is right -/
section Facts
set_option maxRecDepth 100000
variable {P : PD}
theorem attsS_inv {wh fl np q : Nat} {fin : Prop} {d : List Nat} {I : (Nat → Nat) → Prop} (h0 : ∀ a v, I a → I (uA a 0 v)) (h1 : ∀ w pl p len a a', 1 ≤ p → p + len ≤ P.2.1 → (∃ t, w = knS (mjP P) wh t) → w ≠ 0 → atS P fin fl d np w pl p len a = .ok a' → I a → I a') : ∀ k p s a a', skA P.1 P.2.1 k p = .ok q → attsS P wh fin fl d np k p s a = .ok a' → I a → I a' := by
  intro k
  induction k with
  | zero =>
    intro p s a a' _ h hI
    cases h
    exact hI
  | succ k ih =>
    intro p s a a' hq h hI
    obtain ⟨g1, g2⟩ := skA_su hq
    unfold attsS at h
    split at h
    case isFalse => cases h
    split at h
    · exact ih _ _ _ _ g2 h hI
    · rename_i hw
      split at h
      · cases h
      · obtain ⟨a1, h2, h3⟩ := eb_inv h
        exact ih _ _ _ _ g2 h3 (h1 _ _ _ _ _ _ (by omega) (by omega) ⟨_, rfl⟩ hw h2 (h0 _ _ hI))
/-- code that is right -/
def cdP (P : PD) (np p : Nat) : Prop := 1 ≤ p ∧ p + 8 + U4 P.1 (p + 4) + 2 + 8 * U2 P.1 (p + 8 + U4 P.1 (p + 4)) + 2 ≤ P.2.1 ∧ 0 < U4 P.1 (p + 4) ∧ np ≤ U2 P.1 (p + 2)
theorem codS_inv {np pl p len : Nat} (hp1 : 1 ≤ p) (hp : p + len ≤ P.2.1) (h : codS P np pl p len = .ok ()) : cdP P np p := by
  unfold codS at h
  split at h
  · cases h
  split at h
  · cases h
  split at h
  · cases h
  split at h
  · cases h
  split at h
  case isFalse => cases h
  rename_i hE
  split at h
  · cases h
  split at h
  · cases h
  unfold eoaS at hE
  split at hE
  · cases hE
  exact ⟨hp1, by omega, by omega, by omega⟩
theorem atts1_inv {fl np q k p : Nat} {fin : Prop} {d : List Nat} {a' : Nat → Nat} (hq : skA P.1 P.2.1 k p = .ok q) (h : attsS P 1 fin fl d np k p 0 (fun _ => 0) = .ok a') : a' 3 = 0 ∨ cdP P np (a' 3) := by
  refine attsS_inv (I := fun a => a 3 = 0 ∨ cdP P np (a 3)) (fun a v hI => hI) (fun w pl p len a a' hp1 hp ⟨t, ht⟩ w0 hA hI => ?_) k p 0 (fun _ => 0) a' hq h (Or.inl rfl)
  have kl := (knS_le (mjP P) 1 t).2.2.1 rfl
  rw [← ht] at kl
  unfold atS at hA
  rw [if_neg (by omega)] at hA
  split at hA
  · obtain ⟨u, h1, h2⟩ := eb_inv hA
    cases h2
    exact Or.inr (codS_inv hp1 hp h1)
  · rw [if_pos (by omega)] at hA
    split at hA
    · by_cases z : clsP P p
      · rw [ci_t z] at hA
        cases hA
        exact hI
      · rw [ci_f z] at hA
        cases hA
    · cases hA
/-- bootstrap methods that are right -/
def boP (P : PD) (p : Nat) : Prop := ∃ e, e ≤ P.2.1 ∧ p + 2 ≤ e ∧ bsL P.1 e (U2 P.1 p) (p + 2) = some e
theorem atts3_inv {fl np q k p : Nat} {fin : Prop} {d : List Nat} {a' : Nat → Nat} (hq : skA P.1 P.2.1 k p = .ok q) (h : attsS P 3 fin fl d np k p 0 (fun _ => 0) = .ok a') : a' 8 = 0 ∨ boP P (a' 8) := by
  refine attsS_inv (I := fun a => a 8 = 0 ∨ boP P (a 8)) (fun a v hI => hI) (fun w pl p len a a' hp1 hp ⟨t, ht⟩ w0 hA hI => ?_) k p 0 (fun _ => 0) a' hq h (Or.inl rfl)
  have kl := (knS_le (mjP P) 3 t).2.2.2.2 rfl
  have kl2 := (knS_le (mjP P) 3 t).1
  rw [← ht] at kl kl2
  unfold atS at hA
  rw [if_neg (by omega), if_neg (by omega), if_neg (by omega)] at hA
  split at hA
  · split at hA
    · by_cases z : innP P p
      · rw [ci_t z] at hA
        cases hA
        exact hI
      · rw [ci_f z] at hA
        cases hA
    · cases hA
  split at hA
  · obtain ⟨u, h1, h2⟩ := eb_inv hA
    cases h2
    unfold booS at h1
    split at h1
    · cases h1
    split at h1
    · rename_i z1 z2
      exact Or.inr ⟨p + len, hp, by show p + 2 ≤ p + len; omega, z2⟩
    · cases h1
  split at hA
  · split at hA
    · split at hA
      · cases hA
        exact hI
      · cases hA
    · cases hA
  split at hA
  · split at hA
    · by_cases z : clsP P p ∧ a 9 = 0
      · rw [ci_t z] at hA
        cases hA
        exact hI
      · rw [ci_f z] at hA
        cases hA
    · cases hA
  split at hA
  · obtain ⟨u, h1, h2⟩ := eb_inv hA
    cases h2
    exact hI
  · split at hA
    · by_cases z : clsP P p ∧ ¬ fin
      · rw [ci_t z] at hA
        cases hA
        exact hI
      · rw [ci_f z] at hA
        cases hA
    · cases hA
theorem ci_ok {P : Prop} {α : Type} {x : FE α} {e : Nat × Nat} {a : α} (h : ci P x (.error e) = .ok a) : P ∧ x = .ok a := by
  by_cases z : P
  · rw [ci_t z] at h
    exact ⟨z, h⟩
  · rw [ci_f z] at h
    cases h
/-- a method that is right -/
def mtK (P : PD) (r : MR) : Prop := r.1 + 8 ≤ P.2.1 ∧ mdP P r.1 ∧ (r.2 3 = 0 ∨ cdP P (npS (n4 P r.1) (U2 P.1 r.1)) (r.2 3))
theorem mtS_inv {face fin : Prop} {q : Nat} : ∀ d k p M M', skM P.1 P.2.1 d p = .ok q → mtS P face fin d k p M = .ok M' → (∀ j, j < k → mtK P (M j)) → ∀ j, j < k + d → mtK P (M' j) := by
  intro d
  induction d with
  | zero =>
    intro k p M M' _ h hv j hj
    cases h
    exact hv j (by omega)
  | succ d ih =>
    intro k p M M' hq h hv j hj
    obtain ⟨g1, r, g2, g3, g4, g5⟩ := skM_su hq
    unfold mtS at h
    obtain ⟨h1, h⟩ := ci_ok h
    obtain ⟨h2, h⟩ := ci_ok h
    obtain ⟨h3, h⟩ := ci_ok h
    obtain ⟨h4, h⟩ := ci_ok h
    obtain ⟨a, h5, h⟩ := eb_inv h
    by_cases z : ¬ a 3 = 0 ↔ bare P p
    · rw [ci_t z] at h
      cases h
    rw [ci_f z, g2, eb_ok] at h
    have hs : skA P.1 P.2.1 (U2 P.1 (p + 6)) (p + 8) = .ok r := by
      have z := g2
      unfold attrS at z
      obtain ⟨_, _, z⟩ := eb_inv z
      exact z
    refine ih (k + 1) r _ M' g5 h (fun i hi => ?_) j (by omega)
    by_cases e : i = k
    · rw [e, show uM M k (p, a) k = (p, a) from if_pos rfl]
      exact ⟨g1, h3, atts1_inv hs h5⟩
    · rw [show uM M k (p, a) i = M i from if_neg e]
      exact hv i (by omega)
/-- what holds of a class that is kept -/
def KF (F : Nat → Int32) (n : Nat) (K : CR) : Prop := FO F n K.1 ∧ RG (F, n, K.1.1, K.1.2.1) ∧ (∀ j, j < U2 F K.1.2.2.2.2.1 → mtK (F, n, K.1.1, K.1.2.1) (K.2.2.1 j)) ∧ (K.2.2.2 8 = 0 ∨ boP (F, n, K.1.1, K.1.2.1) (K.2.2.2 8)) ∧ U2 F K.1.2.2.2.1 < 8300 ∧ U2 F K.1.2.2.2.2.1 < 8300
theorem chk_KF {F : Nat → Int32} {n : Nat} {K : CR} (hn : n ≤ 1300) (h : chkS F n = .ok K) : KF F n K := by
  unfold chkS at h
  obtain ⟨r, h1, h⟩ := eb_inv h
  obtain ⟨_, h2, h⟩ := eb_inv h
  obtain ⟨_, h3, h⟩ := eb_inv h
  obtain ⟨Mf, h4, h⟩ := eb_inv h
  obtain ⟨Mm, h5, h⟩ := eb_inv h
  obtain ⟨a, h6, h⟩ := eb_inv h
  cases h
  have hFO := fileS_FO hn h1
  obtain ⟨A, T, hd, fa, ma, aa⟩ := r
  have hFO' := hFO
  obtain ⟨g, hd10, hfa, hfan, hmf, hmm, hma⟩ := hFO'
  dsimp only at g hd10 hfa hfan hmf hmm hma
  unfold attrS at hma
  obtain ⟨_, _, hma⟩ := eb_inv hma
  unfold membS at hmm hmf
  obtain ⟨_, q2, hmm⟩ := eb_inv hmm
  obtain ⟨_, q1, hmf⟩ := eb_inv hmf
  have q1 := itS_ok q1
  have q2 := itS_ok q2
  have b1 := mem8 _ _ _ hmf (by omega)
  have b2 := mem8 _ _ _ hmm (by omega)
  unfold rstS at h6
  obtain ⟨a1, h6, h7⟩ := eb_inv h6
  obtain ⟨_, h8, h7⟩ := eb_inv h7
  cases h7
  refine ⟨hFO, RG_of g h2, fun j hj => ?_, atts3_inv (P := (F, n, A, T)) hma h6, by show U2 F fa < 8300; omega, by show U2 F ma < 8300; omega⟩
  unfold mthS at h5
  exact mtS_inv (P := (F, n, A, T)) _ _ _ _ _ hmm h5 (fun i hi => by omega) j (by rw [Nat.zero_add]; exact hj)
end Facts
