/-! the component's structure, whole -/
section XStr2
set_option maxRecDepth 100000
abbrev FR : Type := (Nat → Nat) × (Nat → List Nat) × Nat × Nat × Nat × Nat
def fileM (F : Nat → Int32) (n p : Nat) : FE (Nat × Nat × Nat) := eb (itS n p 2) fun _ => eb (itS n (p + 2) 2) fun _ => eb (itS n (p + 4) 2) fun _ => eb (itS n (p + 6) 2) fun _ => eb (skI n (U2 F (p + 6)) (p + 8)) fun q1 => eb (tailS F n q1) fun r => .ok (q1, r)
def fileT (F : Nat → Int32) (n : Nat) : FE FR := eb (rpS F n (U2 F 6) (U2 F 8) (U2 F 8) 1 10 (fun _ => 0) (fun _ => [])) fun r => eb (fileM F n r.1) fun z => .ok (r.2.1, r.2.2, r.1, z.1, z.2.1, z.2.2)
def file117 (F : Nat → Int32) (n : Nat) : FE FR := eb (itS n 8 2) fun _ => if U2 F 8 = 0 then .error (4, 8) else fileT F n
def file49 (F : Nat → Int32) (n : Nat) : FE FR := eb (itS n 4 2) fun _ => eb (itS n 6 2) fun _ => if U2 F 6 < 45 ∨ 61 < U2 F 6 ∨ (56 ≤ U2 F 6 ∧ U2 F 4 ≠ 0) then .error (3, 4) else file117 F n
theorem eb_cg {α β : Type} {E : FE α} {f g : α → FE β} (h : ∀ a, f a = g a) : eb E f = eb E g := by
  rw [show f = g from funext h]
theorem fileS_eq (F : Nat → Int32) (n : Nat) : fileS F n = eb (itS n 0 4) fun _ => if U4 F 0 ≠ 3405691582 then .error (2, 0) else file49 F n := by
  have e : ∀ r : Nat × (Nat → Nat) × (Nat → List Nat), (eb (itS n r.1 2) fun _ => eb (itS n (r.1 + 2) 2) fun _ => eb (itS n (r.1 + 4) 2) fun _ => eb (itS n (r.1 + 6) 2) fun _ => eb (skI n (U2 F (r.1 + 6)) (r.1 + 8)) fun q1 => eb (membS F n q1) fun q2 => eb (membS F n q2) fun q3 => eb (attrS F n q3) fun q4 => if q4 = n then (.ok (r.2.1, r.2.2, r.1, q1, q2, q3) : FE FR) else .error (8, q4)) = eb (fileM F n r.1) fun z => .ok (r.2.1, r.2.2, r.1, z.1, z.2.1, z.2.2) := by
    intro r
    simp only [fileM, tailS, eb_eb]
    refine eb_cg fun _ => eb_cg fun _ => eb_cg fun _ => eb_cg fun _ => eb_cg fun _ => eb_cg fun _ => eb_cg fun _ => eb_cg fun q4 => ?_
    split <;> rfl
  unfold fileS file49 file117 fileT
  refine eb_cg fun _ => ?_
  split
  · rfl
  refine eb_cg fun _ => eb_cg fun _ => ?_
  split
  · rfl
  refine eb_cg fun _ => ?_
  split
  · rfl
  exact eb_cg fun r => e r
theorem xPc_of {F : Nat → Int32} {n x0 c b v cm lo : Nat} {σ : GS} {A : Nat → Nat} {T : Nat → List Nat} {t : List Nat} (hw : WF σ) (hx : gk σ x0 = 1) (hB : bS t b v σ) (hP : xPS x0 c b lo (U2 F 8) (U2 F 6) σ) (h2 : gi σ c 2 = nI (U2 F 4)) (h6 : gi σ c 6 = nI (U2 F 8)) (hv : v ≠ lo) (hcm : cm < lo) (kcm : gk σ cm = 101) (hE : ∀ i, i < U2 F 8 → xEn F lo v i (A i) (T i) σ) : xPc (F, n, A, T) c lo (nN x0 b v cm σ) σ ∧ nN x0 b v cm σ (lo + 5) := by
  obtain ⟨⟨c1, c2⟩, ⟨r7, r8, r9, r10, r11⟩, ⟨s7, s11⟩, ⟨k0, k1, k2, k3, k4, k5⟩, ⟨n0, n1, n2, n3, n4, n5⟩, hgb, hsz31⟩ := hP
  have mk : ∀ {a K : Nat}, gk σ a = K → K ≠ 0 → K ≠ 1 → K ≠ 5 → a ≠ v → a ≠ cm → nN x0 b v cm σ a := fun {a K} q r0 r1 r5 hav hac => ⟨hw.lt (by rw [q]; exact r0), fun z => by rw [z, hx] at q; exact r1 q.symm, fun z => by rw [z, hB.1] at q; exact r5 q.symm, hav, hac⟩
  have nv : ∀ {a K : Nat}, gk σ a = K → K ≠ 101 → a ≠ v := fun {a K} q r z => by rw [z, hB.2.2.1] at q; exact r q.symm
  have nc : ∀ {a K : Nat}, gk σ a = K → K ≠ 101 → a ≠ cm := fun {a K} q r z => by rw [z, kcm] at q; exact r q.symm
  refine ⟨⟨⟨c1, c2, h2, h6⟩, ⟨r7, r8, r9, r10, r11⟩, ⟨k0, k1, k2, k3, k4⟩, ⟨n0, n1, n2, n3, n4⟩, ⟨mk c1 (by decide) (by decide) (by decide) (nv c1 (by decide)) (nc c1 (by decide)), mk k0 (by decide) (by decide) (by decide) (fun z => hv z.symm) (by omega), mk k1 (by decide) (by decide) (by decide) (nv k1 (by decide)) (nc k1 (by decide)), mk k2 (by decide) (by decide) (by decide) (nv k2 (by decide)) (nc k2 (by decide)), mk k3 (by decide) (by decide) (by decide) (nv k3 (by decide)) (nc k3 (by decide)), mk k4 (by decide) (by decide) (by decide) (nv k4 (by decide)) (nc k4 (by decide))⟩, fun i hi => ?_⟩, mk k5 (by decide) (by decide) (by decide) (nv k5 (by decide)) (nc k5 (by decide))⟩
  obtain ⟨e1, e2, e3, e4, e5, e6⟩ := hE i hi
  refine ⟨e1, e2, e3, e4, fun ht => ?_⟩
  have hA : A i ≠ 0 := fun z => by
    have ht : tgS F (A i) = 1 := ht
    rw [z] at ht
    exact absurd ht (by unfold tgS; rw [if_pos rfl]; decide)
  have hU : U1 F (A i) = 1 := by
    have ht : tgS F (A i) = 1 := ht
    unfold tgS at ht
    rw [if_neg hA] at ht
    exact ht
  obtain ⟨s, s1, s2, s3, s4⟩ := e6 hA hU
  refine ⟨s, s1, s2, mk s2.1 (by decide) (by decide) (by decide) (nv s2.1 (by decide)) (nc s2.1 (by decide)), fun w hw => ?_⟩
  obtain ⟨w', g4, g5, -⟩ := s2.2.2.2
  have hw2 := hw
  rw [g4] at hw2
  cases hw2
  exact mk g5 (by decide) (by decide) (by decide) (s4 _ hw).1 (by have := (s4 _ hw).2; omega)
theorem x_s149 {F : Nat → Int32} {n x0 c b v cm C S fu : Nat} {u : List Nat} {σ : GS} (hn : n ≤ 1300) (h10 : 10 ≤ n) (h45 : 45 ≤ U2 F 6) (h1 : 1 ≤ U2 F 8) (hfu : 65536 < fu) (hS : 40000 ≤ S) (hw : WF σ) (hA : xA F n x0 10 σ) (hc : gk σ c = 2) (hc1 : gi σ c 1 = nI (U2 F 6)) (hc2 : gi σ c 2 = nI (U2 F 4)) (hc6 : gi σ c 6 = nI (U2 F 8)) (hb : gr σ x0 11 = some b) (hB : bS u b v σ) (hfv : ∀ q, gr σ x0 2 = some q → q ≠ v ∧ q ≠ cm) (kcm : gk σ cm = 101) (hC : C + 2 * n + 9 ≤ gc σ) (hS2 : S + 16 + 5 * n ≤ gs σ + 2 * gn σ v) :
    xS5 F n x0 c b v cm C S (fileT F n) σ (x_structure_149 fu σ x0 c) := by
  have h6l := U2_lt F 6
  have h8l := U2_lt F 8
  have lc : c < gx σ := hw.lt (by rw [hc]; decide)
  have lx : x0 < gx σ := hw.lt (by rw [hA.1.1]; decide)
  have lv : v < gx σ := hw.lt (by rw [hB.2.2.1]; decide)
  have lcm : cm < gx σ := hw.lt (by rw [kcm]; decide)
  have ncb : c ≠ b := fun z => by have := hB.1; rw [← z, hc] at this; exact absurd this (by decide)
  have ncv : c ≠ v := fun z => by have := hB.2.2.1; rw [← z, hc] at this; exact absurd this (by decide)
  have ncx : c ≠ x0 := fun z => by have := hA.1.1; rw [← z, hc] at this; exact absurd this (by decide)
  have nxb : x0 ≠ b := fun z => by have := hB.1; rw [← z, hA.1.1] at this; exact absurd this (by decide)
  have nxv : x0 ≠ v := fun z => by have := hB.2.2.1; rw [← z, hA.1.1] at this; exact absurd this (by decide)
  obtain ⟨σ6, sz, f6, x6, hsz, hR⟩ := x_readPool_ok hn h10 h6l h45 h8l h1 hfu hS hw hA hc hc1 hc6 hb hB (fun q h => (hfv q h).1) hC hS2
  unfold x_structure_149 fileT
  rw [ckT_ok hA.1.1]
  have f6' : Fq (w5 x0 c b v) σ σ6 := f6.mo (fun a j _ z => by
    rcases z with z | z
    · exact Or.inr (Or.inr ⟨z.1, by omega⟩)
    · exact Or.inr (Or.inl ⟨z.1, by omega⟩))
  revert hR
  cases hE : rpS F n (U2 F 6) (U2 F 8) (U2 F 8) 1 10 (fun _ => 0) (fun _ => []) with
  | error er =>
    rintro ⟨σ', v', t', a1, a2, a3, a4, a5, a6, a7⟩
    rw [a1, Option.bind_some, if_pos rfl]
    refine ⟨σ', v', t', rfl, a2, a3, by omega, f6'.trw a5 (fun _ _ _ z => z) (fun a j ha z => ?_), a6, a7⟩
    rcases z with z | z | z
    · exact Or.inl z
    · exact Or.inr (Or.inl ⟨z.1, by have := z.2; omega⟩)
    · omega
  | ok r =>
    rintro ⟨σ', v', t', a1, ⟨b1, b2, b3⟩, a3, a4, a5, a6, a7⟩
    obtain ⟨q, A', T'⟩ := r
    obtain ⟨d1, d2, d3, d4, d5, d6⟩ := rpS_ok _ _ _ _ _ hE h10 (Nat.le_refl _) (fun _ _ => rfl) (fun i hi => absurd rfl hi) (by omega) h1
    have hsz := hsz (by omega)
    subst hsz
    have f' : Fq (w5 x0 c b v) σ σ' := f6'.trw a5 (fun _ _ _ z => z) (fun a j ha z => by
      rcases z with z | z | z
      · exact Or.inl z
      · exact Or.inr (Or.inl ⟨z.1, by have := z.2; omega⟩)
      · omega)
    have hw' := f'.wf hw
    rw [a1, Option.bind_some, if_neg i10, ckT_ok b1.1.1, nx_eq, b1.2.1]
    have A9 : xA F n x0 q (gpi σ' x0 9 (nI q)) := ⟨b1.1.put, (gi_gpi_ne (Or.inr (by decide))).trans b1.2.1, b1.2.2.pk (by decide)⟩
    have hT := x_smid (c := c) (by omega) hfu d1 A9
    have sub : ∀ σ2, sm x0 LT (gpi σ' x0 9 (nI q)) σ2 → Fq (fun a j => a = x0 ∧ (j = 3 ∨ j = 4 ∨ j = 6 ∨ j = 8 ∨ j = 10 ∨ j = 9)) σ' σ2 := fun σ2 z => (Fq.pi ⟨rfl, by omega⟩).trw z.fq (fun _ _ _ z => z) (fun a j _ z => ⟨z.1, by
      have := z.2
      simp only [LT, List.mem_cons, List.not_mem_nil, or_false] at this
      omega⟩)
    have to5 : ∀ σ2, Fq (fun a j => a = x0 ∧ (j = 3 ∨ j = 4 ∨ j = 6 ∨ j = 8 ∨ j = 10 ∨ j = 9)) σ' σ2 → Fq (w5 x0 c b v) σ σ2 := fun σ2 z => f'.trw z (fun _ _ _ z => z) (fun a j _ z => Or.inr (Or.inl ⟨z.1, by have := z.2; omega⟩))
    have bb : ∀ σ2, Fq (fun a j => a = x0 ∧ (j = 3 ∨ j = 4 ∨ j = 6 ∨ j = 8 ∨ j = 10 ∨ j = 9)) σ' σ2 → bS t' b v' σ2 ∧ gn σ2 v' = gn σ' v' := fun σ2 z => a3.fr z hw' (fun j y => nxb y.1.symm) (fun j y => by have y1 := y.1; rw [y1] at a3; have := a3.2.2.1; rw [b1.1.1] at this; exact absurd this (by decide))
    have gcs : ∀ σ2, sm x0 LT (gpi σ' x0 9 (nI q)) σ2 → gc σ2 = gc σ' ∧ gs σ2 = gs σ' ∧ gx σ2 = gx σ' := fun σ2 z => ⟨z.2.2.2.2.2.1.trans gc_gpi, z.2.2.2.2.2.2.1.trans gs_gpi, z.2.2.2.2.1.trans gx_gpi⟩
    show xS5 F n x0 c b v cm C S (eb (fileM F n q) fun z => .ok (A', T', q, z.1, z.2.1, z.2.2)) σ _
    revert hT
    show xT4 x0 LT (fileM F n q) _ _ _ _ _ → _
    cases fileM F n q with
    | error er =>
      rintro ⟨σ2, e1, e2, e3⟩
      obtain ⟨g1, g2, g3⟩ := gcs σ2 e3
      obtain ⟨g4, g5⟩ := bb σ2 (sub σ2 e3)
      rw [e1]
      exact ⟨σ2, v', t', rfl, e2, g4, by omega, to5 σ2 (sub σ2 e3), by omega, by rw [g5]; omega⟩
    | ok z =>
      rintro ⟨σ2, e1, ⟨e2, e3, e4⟩, e5⟩
      obtain ⟨g1, g2, g3⟩ := gcs σ2 e5
      have Q2 := sub σ2 e5
      obtain ⟨g4, g5⟩ := bb σ2 Q2
      have ci : ∀ j, j = 2 ∨ j = 6 → gi σ' c j = gi σ c j := by
        intro j hj
        refine (a5.gi (by omega) (fun y => ?_)).trans (f6.gi lc (fun y => ?_))
        · rcases y with (y | y) | y | y
          · exact ncb y
          · exact ncv y
          · exact ncx y.1
          · omega
        · rcases y with y | y
          · omega
          · exact ncx y.1
      have hv' : v' ≠ gx σ := by omega
      obtain ⟨p1, p2⟩ := xPc_of (n := n) (A := A') (T := T') hw' b1.1.1 a3 b2 ((ci 2 (by omega)).trans hc2) ((ci 6 (by omega)).trans hc6) hv' lcm (f'.gk hw kcm (by decide)) b3
      have hN : nN x0 b v' cm σ2 = nN x0 b v' cm σ' := by
        unfold nN
        rw [g3]
      have p3 : xPc (F, n, A', T') c (gx σ) (nN x0 b v' cm σ2) σ2 := by
        rw [hN]
        exact p1.fr Q2 hw' (fun a j z m => absurd z.1 m.2.1)
      have nx2 : ∀ j, ¬ (j = 3 ∨ j = 4 ∨ j = 6 ∨ j = 8 ∨ j = 10 ∨ j = 9) → ¬ (x0 = x0 ∧ (j = 3 ∨ j = 4 ∨ j = 6 ∨ j = 8 ∨ j = 10 ∨ j = 9)) := fun j g z => g z.2
      have lx' : x0 < gx σ' := by have := f'.1; omega
      have l5 : gx σ + 5 < gx σ' := p2.1
      have n5x : gx σ + 5 ≠ x0 := p2.2.1
      rw [e1]
      refine ⟨σ2, v', t', gx σ, rfl, ⟨e3, p3, e2, fun f hf => ?_, ⟨(Q2.gr lx' (nx2 7 (by omega))).trans b2.2.2.1.1, Q2.gk hw' b2.2.2.2.1.2.2.2.2.2 (by decide), (Q2.gn l5).trans b2.2.2.2.2.1.2.2.2.2.2, ?_⟩, fun i hi => ?_, ⟨?_, e4⟩, fun z => z.2.1 rfl⟩, g4, by omega, to5 σ2 Q2, by omega, by rw [g5]; omega⟩
      · rw [hN]
        rw [Q2.gr lx' (nx2 2 (by omega))] at hf
        obtain ⟨k1, f2, k2, k3, -⟩ := b1.1
        have ef : f = f2 := by
          rw [k2] at hf
          exact (Option.some.inj hf).symm
        subst ef
        refine ⟨hw'.lt (by rw [k3]; decide), fun z => by rw [z, k1] at k3; exact absurd k3 (by decide), fun z => by rw [z, a3.1] at k3; exact absurd k3 (by decide), ?_⟩
        rw [f'.gr lx (fun z => by
          rcases z with (z | z) | z | z
          · exact nxb z
          · exact nxv z
          · have := z.2
            omega
          · exact ncx z.1.symm)] at hf
        have h3 := hfv _ hf
        obtain ⟨-, f3, k4, k5, -⟩ := hA.1
        rw [k4] at hf
        have ef : f3 = f := Option.some.inj hf
        subst ef
        have : f3 < gx σ := hw.lt (by rw [k5]; decide)
        exact ⟨by omega, h3.2⟩
      · rw [hN]
        exact p2
      · have hiA : A' i ≠ 0 := fun z => hi (by unfold tgP; rw [show (F, n, A', T').2.2.1 i = 0 from z]; rfl)
        have hic : i < U2 F 8 := Nat.lt_of_not_le fun z => hiA (d3 i z)
        rw [Q2.gi l5 (fun z => n5x z.1)]
        exact (b3 i hic).2.2.2.2.1 hiA
      · have := e5.2.2.2.2.2.2.2.2.2 x0 9 (fun z => absurd z.2 (by decide))
        rw [this]
        exact gi_gpi_eq
end XStr2
