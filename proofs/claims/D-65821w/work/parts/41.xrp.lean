/-! the component's readPool -/
section XRp
set_option maxRecDepth 100000
theorem x_gate {fu t maj c x0 : Nat} {k65 : GS → Nat → Nat → Int32 → Int32 → Option (Int32 × GS)} {σ : GS} {x2 x4 : Int32} (ht : t < 256) (hm : maj < 65536) (h45 : 45 ≤ maj) (hc : gk σ c = 2) (hc1 : gi σ c 1 = nI maj) :
    (if nI t = (15 : Int32) then x_readPool_123 fu k65 σ x0 c x2 x4 (nI t) else if nI t = (16 : Int32) then x_readPool_123 fu k65 σ x0 c x2 x4 (nI t) else if nI t = (18 : Int32) then x_readPool_123 fu k65 σ x0 c x2 x4 (nI t) else if nI t = (17 : Int32) then x_readPool_161 fu k65 σ x0 c x2 x4 (nI t) (55 : Int32) else if nI t = (19 : Int32) then x_readPool_154 fu k65 σ x0 c x2 x4 (nI t) else if nI t = (20 : Int32) then x_readPool_154 fu k65 σ x0 c x2 x4 (nI t) else x_readPool_161 fu k65 σ x0 c x2 x4 (nI t) (45 : Int32)) = if goodT t maj then (if t = 5 ∨ t = 6 then x_readPool_240 fu k65 σ x0 c x2 x4 (nI t) else x_readPool_259 fu k65 σ x0 c x2 x4 (nI t)) else x_readPool_217 fu σ x0 := by
  have h201 : ∀ s : Nat, s < 100 → x_readPool_201 fu k65 σ x0 c x2 x4 (nI t) (nI s) 1 = if s ≤ maj then (if t = 5 ∨ t = 6 then x_readPool_240 fu k65 σ x0 c x2 x4 (nI t) else x_readPool_259 fu k65 σ x0 c x2 x4 (nI t)) else x_readPool_217 fu σ x0 := by
    intro s hs
    unfold x_readPool_201
    rw [if_neg i10, ckT_ok hc, hc1]
    simp (disch := (first | omega | decide)) only [nI_eqL, nI_leL, nI_ltL, nI_Lle, nI_Llt, nI_eq, nI_leI, nI_ltI]
    split
    · split
      · rw [if_pos (by omega)]
      · split
        · rw [if_pos (by omega)]
        · rw [if_neg (by omega)]
    · rfl
  generalize (if t = 5 ∨ t = 6 then x_readPool_240 fu k65 σ x0 c x2 x4 (nI t) else x_readPool_259 fu k65 σ x0 c x2 x4 (nI t)) = X at h201 ⊢
  have h161 : ∀ s : Nat, s < 100 → x_readPool_161 fu k65 σ x0 c x2 x4 (nI t) (nI s) = if (t = 1 ∨ (3 ≤ t ∧ t ≤ 12) ∨ (15 ≤ t ∧ t ≤ 20)) ∧ s ≤ maj then X else x_readPool_217 fu σ x0 := by
    intro s hs
    have h0 : x_readPool_201 fu k65 σ x0 c x2 x4 (nI t) (nI s) 0 = x_readPool_217 fu σ x0 := by
      unfold x_readPool_201
      rw [if_pos rfl]
    have h182 : x_readPool_182 fu k65 σ x0 c x2 x4 (nI t) (nI s) = if (15 ≤ t ∧ t ≤ 20) ∧ s ≤ maj then X else x_readPool_217 fu σ x0 := by
      unfold x_readPool_182 x_readPool_196 x_readPool_200
      rw [h201 s hs, h0]
      simp (disch := (first | omega | decide)) only [nI_eqL, nI_leL, nI_ltL, nI_Lle, nI_Llt, nI_eq, nI_leI, nI_ltI]
      by_cases z1 : t < 15
      · rw [if_pos z1, if_neg (by omega)]
      · rw [if_neg z1]
        by_cases z2 : 20 < t
        · rw [if_pos z2, if_neg (by omega)]
        · rw [if_neg z2]
          by_cases z3 : s ≤ maj
          · rw [if_pos z3, if_pos (by omega)]
          · rw [if_neg z3, if_neg (by omega)]
    unfold x_readPool_161 x_readPool_196
    rw [h201 s hs, h182]
    simp (disch := (first | omega | decide)) only [nI_eqL, nI_leL, nI_ltL, nI_Lle, nI_Llt, nI_eq, nI_leI, nI_ltI]
    by_cases z3 : s ≤ maj
    · rw [if_pos z3]
      split
      · rw [if_pos (by omega)]
      · split
        · split
          · rw [if_pos (by omega)]
          · rw [if_neg (by omega)]
        · split
          · rw [if_pos (by omega)]
          · split
            · rw [if_pos (by omega)]
            · rw [if_neg (by omega)]
    · rw [if_neg z3]
      repeat' split
      all_goals first | rfl | (exfalso; omega)
  unfold x_readPool_123 x_readPool_154
  rw [show (51 : Int32) = nI 51 from rfl, show (55 : Int32) = nI 55 from rfl, show (53 : Int32) = nI 53 from rfl, show (45 : Int32) = nI 45 from rfl, h161 51 (by decide), h161 55 (by decide), h161 53 (by decide), h161 45 (by decide)]
  generalize x_readPool_217 fu σ x0 = Y
  simp (disch := (first | omega | decide)) only [nI_eqL, nI_leL, nI_ltL, nI_Lle, nI_Llt, nI_eq, nI_leI, nI_ltI]
  by_cases hg : goodT t maj
  · rw [if_pos hg]
    split
    · rw [if_pos (by omega)]
    split
    · rw [if_pos (by omega)]
    split
    · rw [if_pos (by omega)]
    split
    · rw [if_pos (by omega)]
    split
    · rw [if_pos (by omega)]
    split
    · rw [if_pos (by omega)]
    · rw [if_pos (by omega)]
  · rw [if_neg hg]
    split
    · rw [if_neg (by omega)]
    split
    · rw [if_neg (by omega)]
    split
    · rw [if_neg (by omega)]
    split
    · rw [if_neg (by omega)]
    split
    · rw [if_neg (by omega)]
    split
    · rw [if_neg (by omega)]
    · rw [if_neg (by omega)]
def wp (x0 b v lo a j : Nat) : Prop := (a = b ∨ a = v) ∨ wx x0 a j ∨ (lo ≤ a ∧ a ≤ lo + 5)
def xRP (F : Nat → Int32) (n x0 c b v lo sz maj cnt C S : Nat) (E : FE (Nat × (Nat → Nat) × (Nat → List Nat))) (σ : GS) (o : Option (Int32 × GS)) : Prop := match E with
  | .error er => ∃ σ' v' t', o = some (0, σ') ∧ xWr x0 er σ' ∧ bS t' b v' σ' ∧ (v' = v ∨ gx σ ≤ v') ∧ Fq (wp x0 b v lo) σ σ' ∧ C ≤ gc σ' ∧ S ≤ gs σ' + 2 * gn σ' v'
  | .ok r => ∃ σ' v' t', o = some (1, σ') ∧ (xA F n x0 r.1 σ' ∧ xPS x0 c b lo sz maj σ' ∧ ∀ i, i < cnt → xEn F lo v' i (r.2.1 i) (r.2.2 i) σ') ∧ bS t' b v' σ' ∧ (v' = v ∨ gx σ ≤ v') ∧ Fq (wp x0 b v lo) σ σ' ∧ C ≤ gc σ' ∧ S ≤ gs σ' + 2 * gn σ' v'
theorem w1.p {x0 b v lo k a j : Nat} (h : w1 x0 b v lo k a j) : wp x0 b v lo a j := by
  rcases h with z | z | z
  · exact Or.inl z
  · exact Or.inr (Or.inl z)
  · exact Or.inr (Or.inr ⟨z.1, z.2.1⟩)
theorem xRP.fr {F : Nat → Int32} {n x0 c b v v1 lo sz maj cnt C S k : Nat} {E : FE (Nat × (Nat → Nat) × (Nat → List Nat))} {σ σ1 : GS} {o : Option (Int32 × GS)} (h : Fq (w1 x0 b v lo k) σ σ1) (hv : v1 = v ∨ gx σ ≤ v1) (q : xRP F n x0 c b v1 lo sz maj cnt C S E σ1 o) : xRP F n x0 c b v lo sz maj cnt C S E σ o := by
  have h1 := h.1
  have hv2 : ∀ v', (v' = v1 ∨ gx σ1 ≤ v') → v' = v ∨ gx σ ≤ v' := by
    intro v' q
    omega
  have hf : ∀ σ', Fq (wp x0 b v1 lo) σ1 σ' → Fq (wp x0 b v lo) σ σ' := by
    intro σ' q
    refine h.trw q (fun a j _ z => z.p) (fun a j ha z => ?_)
    rcases z with (z | z) | z
    · exact Or.inl (Or.inl z)
    · exact Or.inl (Or.inr (by omega))
    · exact Or.inr z
  cases E with
  | error er =>
    obtain ⟨σ', v', t', k1, k2, k3, k4, k5, k6⟩ := q
    exact ⟨σ', v', t', k1, k2, k3, hv2 v' k4, hf σ' k5, k6⟩
  | ok t =>
    obtain ⟨σ', v', t', k1, k2, k3, k4, k5, k6⟩ := q
    exact ⟨σ', v', t', k1, k2, k3, hv2 v' k4, hf σ' k5, k6⟩
/-- what holds at the head of the loop -/
def xHd (F : Nat → Int32) (n x0 c b v lo sz maj k p : Nat) (A : Nat → Nat) (T : Nat → List Nat) (C S : Nat) (u : List Nat) (σ : GS) : Prop :=
  (WF σ ∧ xA F n x0 p σ ∧ xPS x0 c b lo sz maj σ ∧ bS u b v σ) ∧ (∀ i, i < k → xEn F lo v i (A i) (T i) σ) ∧ (∀ i, k ≤ i → gi σ lo i = 0 ∧ gi σ (lo + 1) i = 0 ∧ gi σ (lo + 2) i = 0 ∧ gl σ (lo + 3) i = 0) ∧ (v ≠ lo ∧ lo + 6 ≤ gx σ ∧ ∀ q, gr σ x0 2 = some q → q ≠ v ∧ q ≠ lo) ∧ C + 2 * (n - p) + 3 ≤ gc σ ∧ S + 4 + 3 * (n - p) ≤ gs σ + 2 * gn σ v
theorem xHd.nx {F : Nat → Int32} {n x0 c b v lo sz maj k p q : Nat} {A : Nat → Nat} {T : Nat → List Nat} {C S : Nat} {u u1 t : List Nat} {σ σ1 : GS} {v1 : Nat} (h : xHd F n x0 c b v lo sz maj k p A T C S u σ) (f : Fq (w1 x0 b v lo k) σ σ1) (hv : v1 = v ∨ gx σ ≤ v1) (hA : xA F n x0 q σ1) (hB : bS u1 b v1 σ1) (hE : xEn F lo v1 k p t σ1) (hC : C + 2 * (n - q) + 3 ≤ gc σ1) (hS : S + 4 + 3 * (n - q) ≤ gs σ1 + 2 * gn σ1 v1) : xHd F n x0 c b v1 lo sz maj (k + 1) q (uA A k p) (uT T k t) C S u1 σ1 := by
  obtain ⟨⟨hw, hA0, hP, hB0⟩, hk, hz, ⟨hl1, hl2, hl3⟩, -, -⟩ := h
  have h1 := f.1
  have hx := hA0.1.1
  refine ⟨⟨f.wf hw, hA, hP.fr hx hB0 f hw, hB⟩, fun i hi => ?_, fun i hi => ?_, ⟨by omega, by omega, fun g hg => ?_⟩, hC, hS⟩
  · rcases Nat.lt_or_ge i k with z | z
    · rw [show uA A k p i = A i from if_neg (by omega), show uT T k t i = T i from if_neg (by omega)]
      exact (hk i z).fr hP hx hB0 f hw (by omega) hl1 hv
    · obtain rfl : i = k := by omega
      rw [show uA A i p i = p from if_pos rfl, show uT T i t i = t from if_pos rfl]
      exact hE
  · obtain ⟨-, -, -, ⟨k0, k1, k2, k3, k4, k5⟩, -, -⟩ := hP
    have na : ∀ {a K : Nat}, gk σ a = K → K ≠ 5 → K ≠ 1 → a ≠ v → ¬ w1 x0 b v lo k a i := by
      intro a K g1 g2 g3 g4 z
      rcases z with (z | z) | z | ⟨z1, z2, z3⟩
      · rw [z, hB0.1] at g1; exact g2 g1.symm
      · exact g4 z
      · rw [z.1, hx] at g1; exact g3 g1.symm
      · omega
    have nv : ∀ {a K : Nat}, gk σ a = K → K ≠ 101 → a ≠ v := fun {a K} q r z => by rw [z, hB0.2.2.1] at q; exact r q.symm
    have ll : ∀ {a K : Nat}, gk σ a = K → K ≠ 0 → a < gx σ := fun {a K} q r => hw.lt (by rw [q]; exact r)
    obtain ⟨z1, z2, z3, z4⟩ := hz i (by omega)
    exact ⟨(f.gi (ll k0 (by decide)) (na k0 (by decide) (by decide) (fun z => hl1 z.symm))).trans z1, (f.gi (ll k1 (by decide)) (na k1 (by decide) (by decide) (nv k1 (by decide)))).trans z2, (f.gi (ll k2 (by decide)) (na k2 (by decide) (by decide) (nv k2 (by decide)))).trans z3, (f.gl (ll k3 (by decide)) (na k3 (by decide) (by decide) (nv k3 (by decide)))).trans z4⟩
  · have lx : x0 < gx σ := hw.lt (by rw [hx]; decide)
    have n2 : ¬ w1 x0 b v lo k x0 2 := by
      obtain ⟨-, -, -, ⟨k0, k1, k2, k3, k4, k5⟩, -, -⟩ := hP
      have nex : ∀ {a K : Nat}, gk σ a = K → K ≠ 1 → x0 ≠ a := fun {a K} q r z => by rw [← z, hx] at q; exact r q.symm
      rintro ((z | z) | z | ⟨z1, z2, z3⟩)
      · exact nex hB0.1 (by decide) z
      · exact nex hB0.2.2.1 (by decide) z
      · have := z.2
        omega
      · have d0 := nex k0 (by decide)
        have d1 := nex k1 (by decide)
        have d2 := nex k2 (by decide)
        have d3 := nex k3 (by decide)
        have d4 := nex k4 (by decide)
        have d5 := nex k5 (by decide)
        omega
    rw [f.gr lx n2] at hg
    have g1 := hl3 g hg
    have g2 : g < gx σ := by
      obtain ⟨-, q', w2, w3, -⟩ := hA0.1
      rw [w2] at hg
      cases hg
      exact hw.lt (by rw [w3]; decide)
    exact ⟨by omega, g1.2⟩
end XRp
