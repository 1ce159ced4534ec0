/-! the pool's entries, and the twin's readPool -/
section RPool
set_option maxRecDepth 100000
abbrev goodT (t maj : Nat) : Prop := t = 1 ∨ (3 ≤ t ∧ t ≤ 12) ∨ ((t = 15 ∨ t = 16 ∨ t = 18) ∧ 51 ≤ maj) ∨ ((t = 19 ∨ t = 20) ∧ 53 ≤ maj) ∨ (t = 17 ∧ 55 ≤ maj)
abbrev twoT (t : Nat) : Prop := (9 ≤ t ∧ t ≤ 12) ∨ t = 17 ∨ t = 18
abbrev oneT (t : Nat) : Prop := t = 7 ∨ t = 8 ∨ t = 16 ∨ t = 19 ∨ t = 20
def esz (t : Nat) : Nat := if t = 15 then 4 else if t = 3 ∨ t = 4 then 5 else if t = 5 ∨ t = 6 then 9 else if twoT t then 5 else 3
def stpT (t : Nat) : Nat := if t = 5 ∨ t = 6 then 2 else 1
def entS (F : Nat → Int32) (n maj cnt k p : Nat) : FE (Nat × List Nat) := eb (itS n p 1) fun _ =>
  if ¬ goodT (U1 F p) maj then .error (5, p) else
  if (U1 F p = 5 ∨ U1 F p = 6) ∧ cnt ≤ k + 1 then .error (7, p) else
  if U1 F p = 1 then eb (itS n (p + 1) 2) fun _ => eb (itS n (p + 3) (U2 F (p + 1))) fun _ => eb (decS F (p + 3 + U2 F (p + 1)) (U2 F (p + 1)) (p + 3)) fun t => .ok (p + 3 + U2 F (p + 1), t) else
  if U1 F p = 15 then eb (itS n (p + 1) 1) fun _ => eb (itS n (p + 2) 2) fun _ => .ok (p + 4, []) else
  if U1 F p = 3 ∨ U1 F p = 4 then eb (itS n (p + 1) 4) fun _ => .ok (p + 5, []) else
  if U1 F p = 5 ∨ U1 F p = 6 then eb (itS n (p + 1) 4) fun _ => eb (itS n (p + 5) 4) fun _ => .ok (p + 9, []) else
  if twoT (U1 F p) then eb (itS n (p + 1) 2) fun _ => eb (itS n (p + 3) 2) fun _ => .ok (p + 5, []) else
  eb (itS n (p + 1) 2) fun _ => .ok (p + 3, [])
def uA (A : Nat → Nat) (k p : Nat) : Nat → Nat := fun i => if i = k then p else A i
def rpS (F : Nat → Int32) (n maj cnt : Nat) : Nat → Nat → Nat → (Nat → Nat) → (Nat → List Nat) → FE (Nat × (Nat → Nat) × (Nat → List Nat))
  | 0, _, _, _, _ => .error (0, 0)
  | f + 1, k, p, A, T => if cnt ≤ k then .ok (p, A, T) else eb (entS F n maj cnt k p) fun r => rpS F n maj cnt f (k + stpT (U1 F p)) r.1 (uA A k p) (uT T k r.2)
theorem eb_inv {α β : Type} {E : FE α} {f : α → FE β} {b : β} (h : eb E f = .ok b) : ∃ a, E = .ok a ∧ f a = .ok b := by
  cases E with
  | error e => cases h
  | ok a => exact ⟨a, rfl, h⟩
theorem entS_ok {F : Nat → Int32} {n maj cnt k p : Nat} {r : Nat × List Nat} (h : entS F n maj cnt k p = .ok r) : p + esz (U1 F p) ≤ r.1 ∧ r.1 ≤ n ∧ goodT (U1 F p) maj ∧ (cnt ≤ k + 1 → ¬ (U1 F p = 5 ∨ U1 F p = 6)) ∧ p + 3 * stpT (U1 F p) ≤ r.1 ∧ (U1 F p = 1 → r.1 = p + 3 + U2 F (p + 1) ∧ decS F (p + 3 + U2 F (p + 1)) (U2 F (p + 1)) (p + 3) = .ok r.2) := by
  unfold entS at h
  obtain ⟨_, h1, h⟩ := eb_inv h
  split at h
  · cases h
  rename_i hg
  have hg := Decidable.not_not.mp hg
  split at h
  · cases h
  rename_i h7
  split at h
  · rename_i ht
    obtain ⟨_, h2, h⟩ := eb_inv h
    obtain ⟨_, h3, h⟩ := eb_inv h
    obtain ⟨t, h4, h⟩ := eb_inv h
    cases h
    have h3 := itS_ok h3
    refine ⟨?_, h3, hg, fun q z => h7 ⟨z, q⟩, ?_, fun _ => ⟨rfl, h4⟩⟩
    · rw [ht]; show p + 3 ≤ p + 3 + U2 F (p + 1); omega
    · rw [ht]; show p + 3 ≤ p + 3 + U2 F (p + 1); omega
  rename_i ht1
  split at h
  · rename_i ht
    obtain ⟨_, h2, h⟩ := eb_inv h
    obtain ⟨_, h3, h⟩ := eb_inv h
    cases h
    have h3 := itS_ok h3
    exact ⟨by rw [ht]; exact Nat.le_refl _, by show p + 4 ≤ n; omega, hg, fun q z => h7 ⟨z, q⟩, by rw [ht]; show p + 3 ≤ p + 4; omega, fun q => absurd q ht1⟩
  rename_i ht2
  split at h
  · rename_i ht
    obtain ⟨_, h3, h⟩ := eb_inv h
    cases h
    have h3 := itS_ok h3
    refine ⟨?_, by show p + 5 ≤ n; omega, hg, fun q z => h7 ⟨z, q⟩, ?_, fun q => absurd q ht1⟩
    · unfold esz
      rw [if_neg ht2, if_pos ht]
      exact Nat.le_refl _
    · unfold stpT
      rw [if_neg (by omega)]
      show p + 3 ≤ p + 5
      omega
  rename_i ht3
  split at h
  · rename_i ht
    obtain ⟨_, h2, h⟩ := eb_inv h
    obtain ⟨_, h3, h⟩ := eb_inv h
    cases h
    have h3 := itS_ok h3
    refine ⟨?_, by show p + 9 ≤ n; omega, hg, fun q z => h7 ⟨z, q⟩, ?_, fun q => absurd q ht1⟩
    · unfold esz
      rw [if_neg ht2, if_neg ht3, if_pos ht]
      exact Nat.le_refl _
    · unfold stpT
      rw [if_pos ht]
      show p + 6 ≤ p + 9
      omega
  rename_i ht4
  have hst : stpT (U1 F p) = 1 := if_neg ht4
  split at h
  · rename_i ht
    obtain ⟨_, h2, h⟩ := eb_inv h
    obtain ⟨_, h3, h⟩ := eb_inv h
    cases h
    have h3 := itS_ok h3
    refine ⟨?_, by show p + 5 ≤ n; omega, hg, fun q z => h7 ⟨z, q⟩, by rw [hst]; show p + 3 ≤ p + 5; omega, fun q => absurd q ht1⟩
    unfold esz
    rw [if_neg ht2, if_neg ht3, if_neg ht4, if_pos ht]
    exact Nat.le_refl _
  · rename_i ht
    obtain ⟨_, h3, h⟩ := eb_inv h
    cases h
    have h3 := itS_ok h3
    refine ⟨?_, by show p + 3 ≤ n; omega, hg, fun q z => h7 ⟨z, q⟩, by rw [hst]; show p + 3 ≤ p + 3; omega, fun q => absurd q ht1⟩
    unfold esz
    rw [if_neg ht2, if_neg ht3, if_neg ht4, if_neg ht]
    exact Nat.le_refl _
/-- an entry that was read well -/
def egd (F : Nat → Int32) (n maj p : Nat) : Prop := 10 ≤ p ∧ p + esz (U1 F p) ≤ n ∧ goodT (U1 F p) maj
theorem rpS_ok {F : Nat → Int32} {n maj cnt : Nat} : ∀ (f k p : Nat) (A : Nat → Nat) (T : Nat → List Nat) {q : Nat} {A' : Nat → Nat} {T' : Nat → List Nat}, rpS F n maj cnt f k p A T = .ok (q, A', T') → p ≤ n → 10 ≤ p → (∀ i, k ≤ i → A i = 0) → (∀ i, A i ≠ 0 → egd F n maj (A i)) → 3 * k + 7 ≤ p → k ≤ cnt →
    q ≤ n ∧ 10 ≤ q ∧ (∀ i, cnt ≤ i → A' i = 0) ∧ (∀ i, A' i ≠ 0 → egd F n maj (A' i)) ∧ 3 * cnt + 7 ≤ q ∧ ∀ i, i < k → A' i = A i := by
  intro f
  induction f with
  | zero => intro k p A T q A' T' h; cases h
  | succ f ih =>
    intro k p A T q A' T' h hp h10 h1 h2 h3 hk
    unfold rpS at h
    split at h
    · cases h
      obtain rfl : k = cnt := by omega
      exact ⟨hp, h10, h1, h2, h3, fun _ _ => rfl⟩
    · rename_i hc
      obtain ⟨r, h4, h⟩ := eb_inv h
      obtain ⟨e1, e2, e3, e4, e5, e6⟩ := entS_ok h4
      have hs : stpT (U1 F p) = 1 ∨ (stpT (U1 F p) = 2 ∧ (U1 F p = 5 ∨ U1 F p = 6)) := by
        unfold stpT
        split
        · rename_i z; exact Or.inr ⟨rfl, z⟩
        · exact Or.inl rfl
      have := ih (k + stpT (U1 F p)) r.1 _ _ h e2 (by omega) (fun i hi => by
        show (if i = k then p else A i) = 0
        rw [if_neg (by omega)]
        exact h1 i (by omega)) (fun i hi => by
        by_cases z : i = k
        · subst z
          have : uA A i p i = p := if_pos rfl
          rw [this]
          exact ⟨h10, by omega, e3⟩
        · have e : uA A k p i = A i := if_neg z
          rw [e] at hi ⊢
          exact h2 i hi) (by omega) (by
        rcases hs with z | ⟨z1, z2⟩
        · omega
        · have := fun q => e4 q z2
          omega)
      obtain ⟨b1, b2, b3, b4, b5, b6⟩ := this
      refine ⟨b1, b2, b3, b4, b5, fun i hi => ?_⟩
      rw [b6 i (by omega)]
      exact if_neg (by omega)
/-- what the twin's pool holds, up to k -/
def mPk (F : Nat → Int32) (A : Nat → Nat) (T : Nat → List Nat) (N : Nat) (S : Nat → List Nat) (k : Nat) (σ : SM) : Prop :=
  ∀ i, i < k → σ.2 21 i = (if A i = 0 then -1 else nI (A i)) ∧ (A i ≠ 0 → U1 F (A i) = 1 → ∃ s, s < N ∧ σ.2 22 i = nI s ∧ S s = T i)
/-- what holds while the twin reads its pool -/
def mPI (F : Nat → Int32) (n maj cnt k p : Nat) (A : Nat → Nat) (T : Nat → List Nat) (σ : SM) : Prop :=
  mF F n σ ∧ σ.1 50 = nI p ∧ σ.1 51 = 0 ∧ σ.1 52 = nI cnt ∧ σ.1 53 = nI maj ∧ ∃ N S, mSI N S σ ∧ N ≤ 3 + k ∧ sta S N ≤ 40 + p ∧ mPk F A T N S k σ
theorem m_adv {α : Type} {L A : List Nat} {F : Nat → Int32} {n p k j : Nat} {σ : SM} {f : Unit → FE α} {Q : α → SM → Prop} {G : SM → Option (Int32 × SM)} (hF : mF F n σ) (hp : σ.1 50 = nI p) (hpn : p ≤ 200000) (hk : k < 2 ^ 32) (h1 : 47 ∈ L) (h2 : 48 ∈ L) (h3 : 50 ∈ L)
    (kk : p + k ≤ n → mRes L A (f ()) Q (sf σ 50 (nI (p + j))) (G (sf σ 50 (nI (p + j))))) : mRes L A (eb (itS n p k) f) Q σ ((m_item σ (lN k)).bind fun r => if r.1 = 0 then some ((0 : Int32), r.2) else nx (sf r.2 50 (r.2.1 50 + nI j)) G) := by
  refine (m_item_ok hF hp hpn hk h1 h2).bnd ?_
  rintro _ σ1 e rfl -
  have e := itS_ok e
  rw [nx_eq, hp, nI_add]
  exact mRes.fr (mfr.sf h3) (kk e)
end RPool
