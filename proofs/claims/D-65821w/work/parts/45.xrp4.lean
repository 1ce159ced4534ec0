/-! the component's readPool: the loop -/
section XRp4
set_option maxRecDepth 100000
theorem xLf.tr3 {x0 lo k p t : Nat} {σ σ4 : GS} (h : xLf x0 lo k (xg3 σ x0 lo k p t) σ4) (f3 : Fq (w0 x0 lo k) σ (xg3 σ x0 lo k p t)) : Fq (w0 x0 lo k) σ σ4 ∧ gc σ4 = gc σ ∧ gs σ4 = gs σ := ⟨f3.tr h.1, h.2.1.trans gc_xg3, h.2.2.1.trans gs_xg3⟩
theorem paS_0 {F : Nat → Int32} {p : Nat} (a : ¬ U1 F p = 15) (b : ¬ (oneT (U1 F p) ∨ twoT (U1 F p))) : (0 : Int32) = nI (paS F p) := by
  unfold paS
  rw [if_neg a, if_neg b]
  split <;> rfl
theorem pbS_0 {F : Nat → Int32} {p : Nat} (a : ¬ U1 F p = 15) (b : ¬ twoT (U1 F p)) : (0 : Int32) = nI (pbS F p) := by
  unfold pbS
  rw [if_neg a, if_neg b]
  split <;> rfl
theorem pvS_0 {F : Nat → Int32} {p : Nat} (a : ¬ (U1 F p = 3 ∨ U1 F p = 4)) (b : ¬ (U1 F p = 5 ∨ U1 F p = 6)) : (0 : Int64) = pvS F p := by
  unfold pvS
  rw [if_neg a, if_neg b]
  split <;> rfl
/-- what an entry's bytes are read as, behind the tag -/
def bodS (F : Nat → Int32) (n p : Nat) : FE (Nat × List Nat) :=
  if U1 F p = 1 then eb (itS n (p + 1) 2) fun _ => eb (itS n (p + 3) (U2 F (p + 1))) fun _ => eb (decS F (p + 3 + U2 F (p + 1)) (U2 F (p + 1)) (p + 3)) fun t => .ok (p + 3 + U2 F (p + 1), t) else
  if U1 F p = 15 then eb (itS n (p + 1) 1) fun _ => eb (itS n (p + 2) 2) fun _ => .ok (p + 4, []) else
  if U1 F p = 3 ∨ U1 F p = 4 then eb (itS n (p + 1) 4) fun _ => .ok (p + 5, []) else
  if U1 F p = 5 ∨ U1 F p = 6 then eb (itS n (p + 1) 4) fun _ => eb (itS n (p + 5) 4) fun _ => .ok (p + 9, []) else
  if twoT (U1 F p) then eb (itS n (p + 1) 2) fun _ => eb (itS n (p + 3) 2) fun _ => .ok (p + 5, []) else
  eb (itS n (p + 1) 2) fun _ => .ok (p + 3, [])
theorem x_bodyT {F : Nat → Int32} {n x0 c b lo sz maj cnt C S fu : Nat} (hn : n ≤ 1300) (hfu : 65536 < fu) (hS : 40000 ≤ S) {k p : Nat} {A : Nat → Nat} {T : Nat → List Nat} {v : Nat} {u : List Nat} {σ σ3 : GS} (hks : k < sz) (hp : p + 1 ≤ n) (h10 : 10 ≤ p) (t1 : U1 F p = 1) (hH0 : xHd F n x0 c b v lo sz maj k p A T C S u σ)
    (A3 : xA F n x0 (p + 1) σ3) (f3 : Fq (w0 x0 lo k) σ σ3) (g3c : gc σ3 = gc σ) (g3s : gs σ3 = gs σ) (g3x : gx σ3 = gx σ) (gk3 : ∀ a, gk σ3 a = gk σ a) (gn3 : ∀ a, gn σ3 a = gn σ a) (gr3 : ∀ a j, gr σ3 a j = gr σ a j) (v0 : gi σ3 lo k = nI (U1 F p)) (v5 : gi σ3 (lo + 5) k = nI p) (v1 : gi σ3 (lo + 1) k = 0) (v2 : gi σ3 (lo + 2) k = 0) (v3 : gl σ3 (lo + 3) k = 0)
    {K : Nat × List Nat → FE (Nat × (Nat → Nat) × (Nat → List Nat))} {X : GS → Option (Int32 × GS)}
    (cont : ∀ (q : Nat) (t u3 : List Nat) (v3 : Nat) (σ3 : GS), q ≤ n → p + 3 * stpT (U1 F p) ≤ q → Fq (w1 x0 b v lo k) σ σ3 → (v3 = v ∨ gx σ ≤ v3) → xA F n x0 q σ3 → bS u3 b v3 σ3 → xEn F lo v3 k p t σ3 → C + 2 * (n - q) + 3 ≤ gc σ3 → S + 4 + 3 * (n - q) ≤ gs σ3 + 2 * gn σ3 v3 → xRP F n x0 c b v lo sz maj cnt C S (K (q, t)) σ (X σ3)) :
    xRP F n x0 c b v lo sz maj cnt C S (eb (eb (itS n (p + 1) 2) fun _ => eb (itS n (p + 3) (U2 F (p + 1))) fun _ => eb (decS F (p + 3 + U2 F (p + 1)) (U2 F (p + 1)) (p + 3)) fun t => .ok (p + 3 + U2 F (p + 1), t)) K) σ ((x_readText fu σ3 x0 c (nI k)).bind fun r => if r.1 = 0 then some ((0 : Int32), r.2) else X r.2) := by
  obtain ⟨⟨hw, hA, hP, hB⟩, hE, hz, ⟨hl1, hl2, hl3⟩, hC, hS2⟩ := hH0
  obtain ⟨⟨c1, c2⟩, ⟨r7, r8, r9, r10, r11⟩, ⟨s7, s11⟩, ks, ⟨n0, n1, n2, n3, n4, n5⟩, hgb, hsz31⟩ := hP
  have hx := hA.1.1
  obtain ⟨w0b, w0v⟩ := w0_b (k := k) hx hB ks hl1
  obtain ⟨k0, k1, k2, k3, k4, k5⟩ := ks
  have nex : ∀ {a K : Nat}, gk σ a = K → K ≠ 1 → a ≠ x0 := fun {a K} q r z => by rw [z, hx] at q; exact r q.symm
  have nb : ∀ {a K : Nat}, gk σ a = K → K ≠ 5 → a ≠ b := fun {a K} q r z => by rw [z, hB.1] at q; exact r q.symm
  have nv : ∀ {a K : Nat}, gk σ a = K → K ≠ 101 → a ≠ v := fun {a K} q r z => by rw [z, hB.2.2.1] at q; exact r q.symm
  have to1 : ∀ {σ1 : GS}, Fq (w0 x0 lo k) σ σ1 → Fq (w1 x0 b v lo k) σ σ1 := fun q => q.mo (fun _ _ _ z => Or.inr z)
  have hp0 : p ≠ 0 := by omega
  have hl := U2_lt F (p + 1)
  obtain ⟨hB3, hn3⟩ := hB.fr f3 hw w0b w0v
  have hw3 := f3.wf hw
  have hR := x_readText_okk (F := F) (n := n) (x0 := x0) (c := c) (b := b) (v := v) (tx := lo + 4) (i := k) (sz := sz) (fu := fu) (C := C + 2 * (n - (p + 3 + U2 F (p + 1))) + 3) (S := S + 4 + 3 * (n - (p + 3 + U2 F (p + 1)))) (p := p + 1) (t := u) (σ := σ3) hn hfu hks hsz31 (by omega) hw3 A3 (by omega) (fun q hq => (hl3 q (by rw [← gr3]; exact hq)).1) (by rw [gr3]; exact s11) (by rw [gk3]; exact c1) (by rw [gr3]; exact r11) (by rw [gk3]; exact k4) (by rw [gn3]; exact n4) hB3 (fun _ => by omega) (fun _ => by rw [hn3]; omega) (by omega) (by rw [hn3]; omega)
  have hE : eb (eb (itS n (p + 1) 2) fun _ => eb (itS n (p + 3) (U2 F (p + 1))) fun _ => eb (decS F (p + 3 + U2 F (p + 1)) (U2 F (p + 1)) (p + 3)) fun t => .ok (p + 3 + U2 F (p + 1), t)) K = eb (rdS F n (p + 1)) fun t => K (p + 3 + U2 F (p + 1), t) := by
    simp only [rdS, eb_eb]
    rfl
  rw [hE]
  have wz : ∀ a j, wrt x0 b v (lo + 4) k a j → w1 x0 b v lo k a j := by
    rintro a j (z | z | z)
    · exact Or.inl z
    · exact Or.inr (Or.inl z)
    · exact Or.inr (Or.inr ⟨by omega, by omega, z.2⟩)
  have nl : ∀ a j, a ≠ b → a ≠ v → a ≠ x0 → a ≠ lo + 4 → ¬ wrt x0 b v (lo + 4) k a j := by
    rintro a j g1 g2 g3 g4 ((z | z) | z | z)
    · exact g1 z
    · exact g2 z
    · exact g3 z.1
    · exact g4 z.1
  have ll3 : ∀ {a K : Nat}, gk σ a = K → K ≠ 0 → a < gx σ3 := fun {a K} q r => by rw [g3x]; exact hw.lt (by rw [q]; exact r)
  have d0 := nl lo k (nb k0 (by decide)) (fun z => hl1 z.symm) (nex k0 (by decide)) (by omega)
  have d1 := nl (lo + 1) k (nb k1 (by decide)) (nv k1 (by decide)) (nex k1 (by decide)) (by omega)
  have d2 := nl (lo + 2) k (nb k2 (by decide)) (nv k2 (by decide)) (nex k2 (by decide)) (by omega)
  have d3 := nl (lo + 3) k (nb k3 (by decide)) (nv k3 (by decide)) (nex k3 (by decide)) (by omega)
  have d5 := nl (lo + 5) k (nb k5 (by decide)) (nv k5 (by decide)) (nex k5 (by decide)) (by omega)
  refine xRT.bnd (R := fun E o => xRP F n x0 c b v lo sz maj cnt C S E σ o) hR ?_ ?_
  · intro er σ' v' t' q2 q3 q4 q5 q6 q7
    exact ⟨σ', v', t', rfl, q2, q3, by omega, ((to1 f3).trw q5 (fun _ _ _ z => z) (fun a j _ z => wz a j z)).mo (fun _ _ _ z => z.p), by omega, by omega⟩
  · rintro t σ' v' t' s hr ⟨q2, q2b⟩ ⟨q3, q3b, q3c, q3d⟩ q4 q5 q6 q7 q8
    have hlen : p + 3 + U2 F (p + 1) ≤ n := by
      unfold rdS at hr
      obtain ⟨_, -, hr⟩ := eb_inv hr
      obtain ⟨_, hr1, hr⟩ := eb_inv hr
      have := itS_ok hr1
      omega
    have f6 : Fq (w1 x0 b v lo k) σ σ' := (to1 f3).trw q6 (fun _ _ _ z => z) (fun a j _ z => wz a j z)
    have F6 : xF F n x0 σ' := by
      refine A3.1.fr q6 hw3 ?_ (fun g hg j => ?_)
      · rintro ((z | z) | z | z)
        · exact nex hB.1 (by decide) z.symm
        · exact nex hB.2.2.1 (by decide) z.symm
        · have := z.2
          omega
        · exact nex k4 (by decide) z.1.symm
      · have hg0 : gr σ x0 2 = some g := by rw [← gr3]; exact hg
        have kg : gk σ g = 101 := by
          obtain ⟨-, q, w2, w3, -⟩ := hA.1
          rw [w2] at hg0
          cases hg0
          exact w3
        exact nl g j (nb kg (by decide)) ((hl3 g hg0).1) (nex kg (by decide)) (fun z => by rw [z, k4] at kg; exact absurd kg (by decide))
    have hst : stpT (U1 F p) = 1 := if_neg (by omega)
    refine cont (p + 3 + U2 F (p + 1)) t t' v' σ' hlen (by rw [hst]; omega) f6 (by omega) ⟨F6, q2b, q2⟩ q4 ⟨((q6.gi (ll3 k0 (by decide)) d0).trans v0).trans (by rw [show tgS F p = U1 F p from if_neg hp0]), ?_, ?_, ?_, fun _ => (q6.gi (ll3 k5 (by decide)) d5).trans v5, fun _ _ => ⟨s, q3b, q3, by omega, fun w hw => ⟨(q3d w hw).1, by have := (q3d w hw).2; omega⟩⟩⟩ (by omega) (by omega)
    · rw [q6.gi (ll3 k1 (by decide)) d1, v1]
      exact paS_0 (by omega) (by omega)
    · rw [q6.gi (ll3 k2 (by decide)) d2, v2]
      exact pbS_0 (by omega) (by omega)
    · rw [q6.gl (ll3 k3 (by decide)) d3, v3]
      exact pvS_0 (by omega) (by omega)
theorem x_body {F : Nat → Int32} {n x0 c b lo sz maj cnt C S fu : Nat} (hn : n ≤ 1300) (hfu : 65536 < fu) (hS : 40000 ≤ S) {k p : Nat} {A : Nat → Nat} {T : Nat → List Nat} {v : Nat} {u : List Nat} {σ : GS} (hks : k < sz) (hp : p + 1 ≤ n) (h10 : 10 ≤ p) (hg : goodT (U1 F p) maj) (hH0 : xHd F n x0 c b v lo sz maj k p A T C S u σ) {K : Nat × List Nat → FE (Nat × (Nat → Nat) × (Nat → List Nat))} {k65 : GS → Nat → Nat → Int32 → Int32 → Option (Int32 × GS)} {x2 : Int32}
    (cont : ∀ (q : Nat) (t u3 : List Nat) (v3 : Nat) (σ3 : GS), q ≤ n → p + 3 * stpT (U1 F p) ≤ q → Fq (w1 x0 b v lo k) σ σ3 → (v3 = v ∨ gx σ ≤ v3) → xA F n x0 q σ3 → bS u3 b v3 σ3 → xEn F lo v3 k p t σ3 → C + 2 * (n - q) + 3 ≤ gc σ3 → S + 4 + 3 * (n - q) ≤ gs σ3 + 2 * gn σ3 v3 → xRP F n x0 c b v lo sz maj cnt C S (K (q, t)) σ (x_readPool_492 fu k65 σ3 x0 c x2 (nI k) (nI (U1 F p)))) :
    xRP F n x0 c b v lo sz maj cnt C S (eb (bodS F n p) K) σ (x_readPool_259 fu k65 (gpi σ (lo + 5) k (nI p)) x0 c x2 (nI k) (nI (U1 F p))) := by
  have hH00 := hH0
  obtain ⟨A3, R3, f3, v0, v5, v1, v2, v3⟩ := x_s3 (t := U1 F p) hH0
  obtain ⟨⟨hw, hA, hP, hB⟩, hE, hz, ⟨hl1, hl2, hl3⟩, hC, hS2⟩ := hH0
  obtain ⟨⟨c1, c2⟩, ⟨r7, r8, r9, r10, r11⟩, ⟨s7, s11⟩, ks, ⟨n0, n1, n2, n3, n4, n5⟩, hgb, hsz31⟩ := hP
  have hx := hA.1.1
  obtain ⟨w0b, w0v⟩ := w0_b (k := k) hx hB ks hl1
  have hb : U1 F p < 128 := by omega
  have hp0 : p ≠ 0 := by omega
  have x_5 := R3.2.2.2.2.2.2.2.2
  unfold x_readPool_259
  rw [ckT_ok (gk_gpi.trans hx), nx_eq, gi_gpi_ne (Or.inl (fun z => x_5 z.symm)), hA.2.1, nI_1, ckT_ok (gk_gpi.trans (gk_gpi.trans c1)), gr_gpi, gr_gpi, r7, ckK_ok (gk_gpi.trans (gk_gpi.trans ks.1)), ckW_ok (by rw [gb_gpi, gb_gpi]; exact hgb), gn_gpi, gn_gpi, n0, ckIn_n hks hsz31, nx_eq, nI_clamp (by omega), t8 _ hb]
  have e3 : gpi (gpi (gpi σ (lo + 5) k (nI p)) x0 6 (nI (p + 1))) lo k (nI (U1 F p)) = xg3 σ x0 lo k p (U1 F p) := rfl
  rw [e3]
  generalize hσ3 : xg3 σ x0 lo k p (U1 F p) = σ3 at *
  have g3c : gc σ3 = gc σ := by rw [← hσ3, gc_xg3]
  have g3s : gs σ3 = gs σ := by rw [← hσ3, gs_xg3]
  have g3x : gx σ3 = gx σ := by rw [← hσ3, gx_xg3]
  have gk3 : ∀ a, gk σ3 a = gk σ a := fun a => by rw [← hσ3, gk_xg3]
  have gn3 : ∀ a, gn σ3 a = gn σ a := fun a => by rw [← hσ3, gn_xg3]
  have gr3 : ∀ a j, gr σ3 a j = gr σ a j := fun a j => by rw [← hσ3, gr_xg3]
  clear e3 hσ3
  have tr3 : ∀ σ4, xLf x0 lo k σ3 σ4 → Fq (w0 x0 lo k) σ σ4 ∧ gc σ4 = gc σ ∧ gs σ4 = gs σ := fun σ4 h => ⟨f3.tr h.1, h.2.1.trans g3c, h.2.2.1.trans g3s⟩
  have to1 : ∀ {σ1 : GS}, Fq (w0 x0 lo k) σ σ1 → Fq (w1 x0 b v lo k) σ σ1 := fun q => q.mo (fun _ _ _ z => Or.inr z)
  -- a fault
  have err : ∀ (er : Nat × Nat) (σ4 : GS), xLf x0 lo k σ3 σ4 → xWr x0 er σ4 → xRP F n x0 c b v lo sz maj cnt C S (.error er) σ (some (0, σ4)) := by
    intro er σ4 h4 hwr
    obtain ⟨f4, e4c, e4s⟩ := tr3 σ4 h4
    obtain ⟨hB1, hn1⟩ := hB.fr f4 hw w0b w0v
    exact ⟨σ4, v, u, rfl, hwr, hB1, Or.inl rfl, (to1 f4).mo (fun _ _ _ z => z.p), by omega, by rw [hn1]; omega⟩
  have out : ∀ (er : Nat × Nat) (σ4 : GS), xLf x0 lo k σ3 σ4 → xWr x0 er σ4 → xRP F n x0 c b v lo sz maj cnt C S (.error er) σ (x_readPool_492 fu k65 σ4 x0 c x2 (nI k) (nI (U1 F p))) := by
    intro er σ4 h4 hwr
    unfold x_readPool_492
    rw [ckT_ok ((tr3 σ4 h4).1.gk hw hx (by decide)), hwr.1, if_neg i10]
    exact err er σ4 h4 hwr
  -- an entry that is no text
  have contN : U1 F p ≠ 1 → ∀ (q : Nat) (σ4 : GS), q ≤ n → p + 3 * stpT (U1 F p) ≤ q → xLf x0 lo k σ3 σ4 → xA F n x0 q σ4 → gi σ4 (lo + 1) k = nI (paS F p) → gi σ4 (lo + 2) k = nI (pbS F p) → gl σ4 (lo + 3) k = pvS F p → xRP F n x0 c b v lo sz maj cnt C S (K (q, [])) σ (x_readPool_492 fu k65 σ4 x0 c x2 (nI k) (nI (U1 F p))) := by
    intro t1 q σ4 hq h3 h4 A4 y1 y2 y3
    obtain ⟨f4, e4c, e4s⟩ := tr3 σ4 h4
    obtain ⟨hB4, hn4⟩ := hB.fr f4 hw w0b w0v
    exact cont q [] u v σ4 hq h3 (to1 f4) (Or.inl rfl) A4 hB4 ⟨(h4.2.2.2.1.trans v0).trans (by rw [show tgS F p = U1 F p from if_neg hp0]), y1, y2, y3, fun _ => h4.2.2.2.2.trans v5, fun _ z => absurd z t1⟩ (by omega) (by rw [hn4]; omega)
  have hst : stpT (U1 F p) = if U1 F p = 5 ∨ U1 F p = 6 then 2 else 1 := rfl
  unfold bodS
  by_cases t1 : U1 F p = 1
  · rw [if_pos t1, if_pos (show nI (U1 F p) = (1 : Int32) by rw [t1]; rfl)]
    exact x_bodyT hn hfu hS hks hp h10 t1 hH00 A3 f3 g3c g3s g3x gk3 gn3 gr3 v0 v5 v1 v2 v3 cont
  rw [if_neg t1, if_neg (show ¬ nI (U1 F p) = (1 : Int32) from fun z => t1 ((nI_eq (b := 1) (by omega) (by omega)).mp z))]
  by_cases t15 : U1 F p = 15
  · have e15 : ∀ o1 o2 o3 : Option (Int32 × GS), (if nI (U1 F p) = (3 : Int32) then o1 else if nI (U1 F p) = (4 : Int32) then o1 else if nI (U1 F p) = (5 : Int32) then o2 else if nI (U1 F p) = (6 : Int32) then o2 else o3) = o3 := by
      intro o1 o2 o3
      rw [t15]
      rfl
    rw [if_pos t15, e15, if_pos (show nI (U1 F p) = (15 : Int32) by rw [t15]; rfl)]
    refine x_e15' (R := fun E o => xRP F n x0 c b v lo sz maj cnt C S E σ o) (K := K) (p := p) hn (by omega) A3 R3 hks err out fun σ4 hq h4 A4 y1 y2 y3 => ?_
    refine contN t1 (p + 4) σ4 (by omega) (by rw [hst, if_neg (by omega)]; omega) h4 A4 ?_ ?_ ?_
    · rw [y1]
      unfold paS
      rw [if_neg hp0, if_pos t15]
    · rw [y2]
      unfold pbS
      rw [if_neg hp0, if_pos t15]
    · rw [y3, v3]
      exact pvS_0 (by omega) (by omega)
  rw [if_neg t15]
  by_cases t34 : U1 F p = 3 ∨ U1 F p = 4
  · have e34 : ∀ o1 o2 : Option (Int32 × GS), (if nI (U1 F p) = (3 : Int32) then o1 else if nI (U1 F p) = (4 : Int32) then o1 else o2) = o1 := by
      intro o1 o2
      rcases t34 with z | z <;> rw [z] <;> rfl
    rw [if_pos t34, e34]
    refine x_e34' (R := fun E o => xRP F n x0 c b v lo sz maj cnt C S E σ o) (K := K) (p := p) hn (by omega) A3 R3 hks out fun σ4 hq h4 A4 y1 y2 y3 => ?_
    refine contN t1 (p + 5) σ4 (by omega) (by rw [hst, if_neg (by omega)]; omega) h4 A4 ?_ ?_ ?_
    · rw [y1, v1]
      exact paS_0 t15 (by omega)
    · rw [y2, v2]
      exact pbS_0 t15 (by omega)
    · rw [y3]
      unfold pvS
      rw [if_neg hp0, if_pos t34]
  rw [if_neg t34, if_neg (show ¬ nI (U1 F p) = (3 : Int32) from fun z => t34 (Or.inl ((nI_eq (b := 3) (by omega) (by omega)).mp z))), if_neg (show ¬ nI (U1 F p) = (4 : Int32) from fun z => t34 (Or.inr ((nI_eq (b := 4) (by omega) (by omega)).mp z)))]
  by_cases t56 : U1 F p = 5 ∨ U1 F p = 6
  · have e56 : ∀ o1 o2 : Option (Int32 × GS), (if nI (U1 F p) = (5 : Int32) then o1 else if nI (U1 F p) = (6 : Int32) then o1 else o2) = o1 := by
      intro o1 o2
      rcases t56 with z | z <;> rw [z] <;> rfl
    rw [if_pos t56, e56]
    refine x_e56' (R := fun E o => xRP F n x0 c b v lo sz maj cnt C S E σ o) (K := K) (p := p) hn (by omega) A3 R3 hks out fun σ4 hq h4 A4 y1 y2 y3 => ?_
    refine contN t1 (p + 9) σ4 (by omega) (by rw [hst, if_pos t56]; omega) h4 A4 ?_ ?_ ?_
    · rw [y1, v1]
      exact paS_0 t15 (by omega)
    · rw [y2, v2]
      exact pbS_0 t15 (by omega)
    · rw [y3]
      unfold pvS
      rw [if_neg hp0, if_neg t34, if_pos t56]
  rw [if_neg t56, if_neg (show ¬ nI (U1 F p) = (5 : Int32) from fun z => t56 (Or.inl ((nI_eq (b := 5) (by omega) (by omega)).mp z))), if_neg (show ¬ nI (U1 F p) = (6 : Int32) from fun z => t56 (Or.inr ((nI_eq (b := 6) (by omega) (by omega)).mp z))), if_neg (show ¬ nI (U1 F p) = (15 : Int32) from fun z => t15 ((nI_eq (b := 15) (by omega) (by omega)).mp z)), eb_if]
  refine x_e12' (R := fun E o => xRP F n x0 c b v lo sz maj cnt C S E σ o) (K := K) (p := p) (t := U1 F p) hn (by omega) (by omega) A3 R3 hks out (fun z σ4 hq h4 A4 y1 y2 y3 => ?_) (fun z σ4 hq h4 A4 y1 y2 y3 => ?_)
  · refine contN t1 (p + 3) σ4 (by omega) (by rw [hst, if_neg (by omega)]; omega) h4 A4 ?_ ?_ ?_
    · rw [y1]
      unfold paS
      rw [if_neg hp0, if_neg t15, if_pos (by omega)]
    · rw [y2, v2]
      exact pbS_0 t15 z
    · rw [y3, v3]
      exact pvS_0 t34 t56
  · refine contN t1 (p + 5) σ4 (by omega) (by rw [hst, if_neg (by omega)]; omega) h4 A4 ?_ ?_ ?_
    · rw [y1]
      unfold paS
      rw [if_neg hp0, if_neg t15, if_pos (Or.inr z)]
    · rw [y2]
      unfold pbS
      rw [if_neg hp0, if_neg t15, if_pos z]
    · rw [y3, v3]
      exact pvS_0 t34 t56
end XRp4
