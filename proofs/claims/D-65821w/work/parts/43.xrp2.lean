/-! the component's readPool: the loop -/
section XRp2
set_option maxRecDepth 100000
theorem t8 : ∀ t, t < 128 → (nI t).toInt8.toInt32.toInt8.toInt32 = nI t := by decide +kernel
theorem xRT.bnd {x0 b v tx i e C S : Nat} {E : FE (List Nat)} {σ : GS} {o : Option (Int32 × GS)} {β : Type} {R : FE β → Option (Int32 × GS) → Prop} {K : List Nat → FE β} {X : GS → Option (Int32 × GS)} (h : xRT x0 b v tx i e C S E σ o)
    (er : ∀ er σ' v' t', xWr x0 er σ' → bS t' b v' σ' → (v' = v ∨ gx σ ≤ v') → Fq (wrt x0 b v tx i) σ σ' → C ≤ gc σ' → S ≤ gs σ' + 2 * gn σ' v' → R (.error er) (some (0, σ')))
    (ok : ∀ t σ' v' t' s, E = .ok t → (Z8 x0 σ' ∧ gi σ' x0 6 = nI e) → (sS t s σ' ∧ gr σ' tx i = some s ∧ gx σ ≤ s ∧ ∀ w, gr σ' s 0 = some w → w ≠ v' ∧ gx σ ≤ w) → bS t' b v' σ' → (v' = v ∨ gx σ ≤ v') → Fq (wrt x0 b v tx i) σ σ' → C ≤ gc σ' → S ≤ gs σ' + 2 * gn σ' v' → R (K t) (X σ')) :
    R (eb E K) (o.bind fun r => if r.1 = 0 then some ((0 : Int32), r.2) else X r.2) := by
  cases E with
  | error e =>
    obtain ⟨σ', v', t', q1, q2, q3, q4, q5, q6, q7⟩ := h
    rw [q1, Option.bind_some, if_pos rfl]
    exact er e σ' v' t' q2 q3 q4 q5 q6 q7
  | ok t =>
    obtain ⟨σ', v', t', s, q1, q2, q3, q4, q5, q6, q7, q8⟩ := h
    rw [q1, Option.bind_some, if_neg i10]
    exact ok t σ' v' t' s rfl q2 q3 q4 q5 q6 q7 q8
/-- names apart: no cell of the arrays is another's -/
theorem w0_b {x0 b v lo k : Nat} {u : List Nat} {σ : GS} (hx : gk σ x0 = 1) (hB : bS u b v σ) (hk : gk σ lo = 101 ∧ gk σ (lo + 1) = 100 ∧ gk σ (lo + 2) = 100 ∧ gk σ (lo + 3) = 104 ∧ gk σ (lo + 4) = 105 ∧ gk σ (lo + 5) = 100) (hl : v ≠ lo) : (∀ j, ¬ w0 x0 lo k b j) ∧ ∀ j, ¬ w0 x0 lo k v j := by
  obtain ⟨k0, k1, k2, k3, k4, k5⟩ := hk
  have nb : ∀ {a K : Nat}, gk σ a = K → K ≠ 5 → b ≠ a := fun {a K} q r z => by rw [← z, hB.1] at q; exact r q.symm
  have nv : ∀ {a K : Nat}, gk σ a = K → K ≠ 101 → v ≠ a := fun {a K} q r z => by rw [← z, hB.2.2.1] at q; exact r q.symm
  constructor
  · rintro j (z | ⟨z1, z2, z3⟩)
    · exact nb hx (by decide) z.1
    · have d0 := nb k0 (by decide)
      have d1 := nb k1 (by decide)
      have d2 := nb k2 (by decide)
      have d3 := nb k3 (by decide)
      have d4 := nb k4 (by decide)
      have d5 := nb k5 (by decide)
      clear nb nv k0 k1 k2 k3 k4 k5 hB hx
      omega
  · rintro j (z | ⟨z1, z2, z3⟩)
    · exact nv hx (by decide) z.1
    · have d1 := nv k1 (by decide)
      have d2 := nv k2 (by decide)
      have d3 := nv k3 (by decide)
      have d4 := nv k4 (by decide)
      have d5 := nv k5 (by decide)
      clear nb nv k0 k1 k2 k3 k4 k5 hB hx
      omega
theorem w0_c {x0 c lo k : Nat} {σ : GS} (hx : gk σ x0 = 1) (hc : gk σ c = 2) (hk : gk σ lo = 101 ∧ gk σ (lo + 1) = 100 ∧ gk σ (lo + 2) = 100 ∧ gk σ (lo + 3) = 104 ∧ gk σ (lo + 4) = 105 ∧ gk σ (lo + 5) = 100) (j : Nat) : ¬ w0 x0 lo k c j := by
  obtain ⟨k0, k1, k2, k3, k4, k5⟩ := hk
  have ne : ∀ {a K : Nat}, gk σ a = K → K ≠ 2 → c ≠ a := fun {a K} q r z => by rw [← z, hc] at q; exact r q.symm
  rintro (z | ⟨z1, z2, z3⟩)
  · exact ne hx (by decide) z.1
  · have d0 := ne k0 (by decide)
    have d1 := ne k1 (by decide)
    have d2 := ne k2 (by decide)
    have d3 := ne k3 (by decide)
    have d4 := ne k4 (by decide)
    have d5 := ne k5 (by decide)
    clear ne k0 k1 k2 k3 k4 k5 hc hx
    omega
/-- an entry's round ends well -/
theorem x_rp_cont {F : Nat → Int32} {n x0 c b lo sz maj cnt C S fu : Nat} (hcnt : cnt < 65536) {f g k p : Nat} {A : Nat → Nat} {T : Nat → List Nat} {v : Nat} {u : List Nat} {σ : GS} (hk : k < cnt) (hf : cnt - k < f + 1) (hA0 : ∀ i, k ≤ i → A i = 0) (h10 : 10 ≤ p) (h37 : 3 * k + 7 ≤ p) (hH0 : xHd F n x0 c b v lo sz maj k p A T C S u σ)
    (ih : ∀ (k p : Nat) (A : Nat → Nat) (T : Nat → List Nat) (v : Nat) (u : List Nat) (σ : GS), cnt - k < f → k ≤ cnt → p ≤ n → 10 ≤ p → 3 * k + 7 ≤ p → (∀ i, k ≤ i → A i = 0) → xHd F n x0 c b v lo sz maj k p A T C S u σ → xRP F n x0 c b v lo sz maj cnt C S (rpS F n maj cnt f k p A T) σ (x_readPool_65L fu g σ x0 c (nI cnt) (nI k)))
    (q : Nat) (t u3 : List Nat) (v3 : Nat) (σ3 : GS) (hq : q ≤ n) (h3 : p + 3 * stpT (U1 F p) ≤ q) (h56 : cnt ≤ k + 1 → ¬ (U1 F p = 5 ∨ U1 F p = 6)) (f3 : Fq (w1 x0 b v lo k) σ σ3) (hv3 : v3 = v ∨ gx σ ≤ v3) (A3 : xA F n x0 q σ3) (B3 : bS u3 b v3 σ3) (E3 : xEn F lo v3 k p t σ3) (hC3 : C + 2 * (n - q) + 3 ≤ gc σ3) (hS3 : S + 4 + 3 * (n - q) ≤ gs σ3 + 2 * gn σ3 v3) :
    xRP F n x0 c b v lo sz maj cnt C S (rpS F n maj cnt f (k + stpT (U1 F p)) q (uA A k p) (uT T k t)) σ (x_readPool_492 fu (x_readPool_65L fu g) σ3 x0 c (nI cnt) (nI k) (nI (U1 F p))) := by
  have hb := U1_lt F p
  have H3 := hH0.nx f3 hv3 A3 B3 E3 hC3 hS3
  refine xRP.fr f3 hv3 ?_
  have hA2 : ∀ i, k + 1 ≤ i → uA A k p i = 0 := fun i hi => by rw [show uA A k p i = A i from if_neg (by omega)]; exact hA0 i (by omega)
  unfold x_readPool_492 x_readPool_516 x_readPool_521
  rw [ckT_ok A3.1.1, if_pos A3.2.2.1, nx_eq, nx_eq, nI_1, nI_2]
  by_cases ht : U1 F p = 5 ∨ U1 F p = 6
  · have e2 : (if nI (U1 F p) = (5 : Int32) then x_readPool_65L fu g σ3 x0 c (nI cnt) (nI (k + 2)) else if nI (U1 F p) = (6 : Int32) then x_readPool_65L fu g σ3 x0 c (nI cnt) (nI (k + 2)) else x_readPool_65L fu g σ3 x0 c (nI cnt) (nI (k + 1))) = x_readPool_65L fu g σ3 x0 c (nI cnt) (nI (k + 2)) := by
      rcases ht with z | z <;> rw [z] <;> rfl
    have hst : stpT (U1 F p) = 2 := if_pos ht
    rw [e2, hst]
    rw [hst] at h3
    have hk2 : k + 1 < cnt := Nat.lt_of_not_le fun z => h56 z ht
    obtain ⟨p1, p2, p3, p4, p5, p6⟩ := H3
    refine ih (k + 2) q _ _ v3 u3 σ3 (by omega) (by omega) hq (by omega) (by omega) (fun i hi => hA2 i (by omega)) ⟨p1, fun i hi => ?_, fun i hi => p3 i (by omega), p4, p5, p6⟩
    rcases Nat.lt_or_ge i (k + 1) with z | z
    · exact p2 i z
    · obtain rfl : i = k + 1 := by omega
      rw [hA2 (k + 1) (Nat.le_refl _)]
      obtain ⟨y1, y2, y3, y4⟩ := p3 (k + 1) (Nat.le_refl _)
      exact ⟨y1, y2, y3, y4, fun z => absurd rfl z, fun z => absurd rfl z⟩
  · have e2 : (if nI (U1 F p) = (5 : Int32) then x_readPool_65L fu g σ3 x0 c (nI cnt) (nI (k + 2)) else if nI (U1 F p) = (6 : Int32) then x_readPool_65L fu g σ3 x0 c (nI cnt) (nI (k + 2)) else x_readPool_65L fu g σ3 x0 c (nI cnt) (nI (k + 1))) = x_readPool_65L fu g σ3 x0 c (nI cnt) (nI (k + 1)) := by
      simp (disch := (first | omega | decide)) only [nI_eqL, nI_leL, nI_ltL, nI_Lle, nI_Llt, nI_eq, nI_leI, nI_ltI]
      rw [if_neg (by omega), if_neg (by omega)]
    have hst : stpT (U1 F p) = 1 := if_neg ht
    rw [e2, hst]
    rw [hst] at h3
    exact ih (k + 1) q _ _ v3 u3 σ3 (by omega) (by omega) hq (by omega) (by omega) hA2 H3
end XRp2
