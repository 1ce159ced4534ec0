/-! the component's entries that are no texts -/
section XEnt
set_option maxRecDepth 100000
theorem xA.pl {F : Nat → Int32} {n x0 p a j : Nat} {v : Int64} {σ : GS} (h : xA F n x0 p σ) : xA F n x0 p (gpl σ a j v) := by
  obtain ⟨⟨w1, g, w2, w3, w4, w5, w6⟩, h6, h8⟩ := h
  exact ⟨⟨w1, g, w2, w3, w4, w5, w6⟩, h6, h8⟩
theorem xA.pi {F : Nat → Int32} {n x0 p a j : Nat} {v : Int32} {σ : GS} (h : xA F n x0 p σ) (hk : gk σ a ≠ 101) (ha : a ≠ x0) : xA F n x0 p (gpi σ a j v) := by
  obtain ⟨⟨w1, g, w2, w3, w4, w5, w6⟩, h6, h8⟩ := h
  exact ⟨⟨w1, g, w2, w3, w4, w5, fun i hi => (gi_gpi_ne (Or.inl (fun z => hk (by rw [← z]; exact w3)))).trans (w6 i hi)⟩, (gi_gpi_ne (Or.inl (fun z => ha z.symm))).trans h6, h8.pi (fun z => ha z.symm)⟩
theorem xWr.pi {x0 a j : Nat} {v : Int32} {er : Nat × Nat} {σ : GS} (h : xWr x0 er σ) (ha : a ≠ x0) : xWr x0 er (gpi σ a j v) := ⟨(gi_gpi_ne (Or.inl (fun z => ha z.symm))).trans h.1, (gi_gpi_ne (Or.inl (fun z => ha z.symm))).trans h.2.1, (gi_gpi_ne (Or.inl (fun z => ha z.symm))).trans h.2.2⟩
theorem xWr.pl {x0 a j : Nat} {v : Int64} {er : Nat × Nat} {σ : GS} (h : xWr x0 er σ) : xWr x0 er (gpl σ a j v) := h
theorem gk_xwr {σ : GS} {x0 r p a : Nat} : gk (xwr σ x0 r p) a = gk σ a := gk_gpi.trans (gk_gpi.trans gk_gpi)
theorem gn_xwr {σ : GS} {x0 r p a : Nat} : gn (xwr σ x0 r p) a = gn σ a := gn_gpi.trans (gn_gpi.trans gn_gpi)
theorem gr_xwr {σ : GS} {x0 r p a j : Nat} : gr (xwr σ x0 r p) a j = gr σ a j := gr_gpi.trans (gr_gpi.trans gr_gpi)
/-- the arrays, seen from an entry -/
def xAr (x0 c lo sz : Nat) (σ : GS) : Prop := gk σ c = 2 ∧ (gr σ c 8 = some (lo + 1) ∧ gr σ c 9 = some (lo + 2) ∧ gr σ c 10 = some (lo + 3)) ∧ (gk σ (lo + 1) = 100 ∧ gk σ (lo + 2) = 100 ∧ gk σ (lo + 3) = 104) ∧ (gn σ (lo + 1) = sz ∧ gn σ (lo + 2) = sz ∧ gn σ (lo + 3) = sz) ∧ sz < 2 ^ 31 ∧ (lo ≠ x0 ∧ lo + 1 ≠ x0 ∧ lo + 2 ≠ x0 ∧ lo + 5 ≠ x0)
/-- what an entry leaves -/
def xLf (x0 lo k : Nat) (σ σ' : GS) : Prop := Fq (w0 x0 lo k) σ σ' ∧ gc σ' = gc σ ∧ gs σ' = gs σ ∧ gi σ' lo k = gi σ lo k ∧ gi σ' (lo + 5) k = gi σ (lo + 5) k
theorem xLf.rf {x0 lo k : Nat} {σ : GS} : xLf x0 lo k σ σ := ⟨Fq.rf, rfl, rfl, rfl, rfl⟩
theorem xLf.at {x0 lo k : Nat} {σ σ' : GS} {v : Int32} (h : xLf x0 lo k σ σ') (h0 : lo ≠ x0) (h5 : lo + 5 ≠ x0) : xLf x0 lo k σ (gpi σ' x0 6 v) :=
  ⟨h.1.tr (Fq.pi (Or.inl ⟨rfl, by omega⟩)), h.2.1, h.2.2.1, (gi_gpi_ne (Or.inl h0)).trans h.2.2.2.1, (gi_gpi_ne (Or.inl h5)).trans h.2.2.2.2⟩
theorem xLf.pa {x0 lo k d : Nat} {σ σ' : GS} {v : Int32} (h : xLf x0 lo k σ σ') (hd : 1 ≤ d ∧ d ≤ 4) : xLf x0 lo k σ (gpi σ' (lo + d) k v) :=
  ⟨h.1.tr (Fq.pi (Or.inr ⟨by omega, by omega, rfl⟩)), h.2.1, h.2.2.1, (gi_gpi_ne (Or.inl (by omega))).trans h.2.2.2.1, (gi_gpi_ne (Or.inl (by omega))).trans h.2.2.2.2⟩
theorem xLf.pv {x0 lo k : Nat} {σ σ' : GS} {v : Int64} (h : xLf x0 lo k σ σ') : xLf x0 lo k σ (gpl σ' (lo + 3) k v) :=
  ⟨h.1.tr (Fq.pl (Or.inr ⟨by omega, by omega, rfl⟩)), h.2.1, h.2.2.1, h.2.2.2.1, h.2.2.2.2⟩
theorem xLf.wr {x0 lo k r p : Nat} {σ σ' : GS} (h : xLf x0 lo k σ σ') (h0 : lo ≠ x0) (h5 : lo + 5 ≠ x0) : xLf x0 lo k σ (xwr σ' x0 r p) :=
  ⟨h.1.tr (Fq.wr (fun _ _ z => Or.inl z)), h.2.1, h.2.2.1, ((gi_gpi_ne (Or.inl h0)).trans ((gi_gpi_ne (Or.inl h0)).trans (gi_gpi_ne (Or.inl h0)))).trans h.2.2.2.1, ((gi_gpi_ne (Or.inl h5)).trans ((gi_gpi_ne (Or.inl h5)).trans (gi_gpi_ne (Or.inl h5)))).trans h.2.2.2.2⟩
theorem x_e34 {F : Nat → Int32} {n x0 c lo sz k p fu : Nat} {σ : GS} {β : Type} {R : FE β → Option (Int32 × GS) → Prop} {K : Nat × List Nat → FE β} {k65 : GS → Nat → Nat → Int32 → Int32 → Option (Int32 × GS)} {x2 x5 : Int32} (hn : n ≤ 1300) (hp : p ≤ n) (hA : xA F n x0 p σ) (hr : xAr x0 c lo sz σ) (hk : k < sz)
    (out : ∀ er σ4, xLf x0 lo k σ σ4 → xWr x0 er σ4 → R (.error er) (x_readPool_492 fu k65 σ4 x0 c x2 (nI k) x5))
    (cont : ∀ σ4, p + 4 ≤ n → xLf x0 lo k σ σ4 → xA F n x0 (p + 4) σ4 → gi σ4 (lo + 1) k = gi σ (lo + 1) k → gi σ4 (lo + 2) k = gi σ (lo + 2) k → gl σ4 (lo + 3) k = (nI (U4 F p)).toInt64 → R (K (p + 4, [])) (x_readPool_492 fu k65 σ4 x0 c x2 (nI k) x5)) :
    R (eb (eb (itS n p 4) fun _ => .ok (p + 4, [])) K) (x_readPool_309 fu k65 σ x0 c x2 (nI k) x5) := by
  obtain ⟨c1, ⟨r8, r9, r10⟩, ⟨k1, k2, k3⟩, ⟨n1, n2, n3⟩, hsz, ⟨x_0, x_1, x_2, x_5⟩⟩ := hr
  unfold x_readPool_309
  rw [ckT_ok c1, ckT_ok hA.1.1, x_next4_ok hA (by omega) hp, r10]
  by_cases z2 : n < p + 4
  · rw [if_pos z2, Option.bind_some, show itS n p 4 = .error (1, p) from if_pos z2, ckK_ok (show gk ((0 : Int64), xwr σ x0 1 p).2 (lo + 3) = 104 from gk_xwr.trans k3), show gn ((0 : Int64), xwr σ x0 1 p).2 (lo + 3) = sz from gn_xwr.trans n3, ckIn_n hk hsz, nx_eq, nI_clamp (by omega)]
    exact out (1, p) _ ((xLf.rf.wr x_0 x_5).pv) xwr_ok.pl
  · rw [if_neg z2, Option.bind_some, show itS n p 4 = .ok () from if_neg z2, eb_ok, ckK_ok (show gk (lN (U4 F p), gpi σ x0 6 (nI (p + 4))).2 (lo + 3) = 104 from gk_gpi.trans (k3)), show gn (lN (U4 F p), gpi σ x0 6 (nI (p + 4))).2 (lo + 3) = sz from gn_gpi.trans (n3), ckIn_n hk hsz, nx_eq, nI_clamp (by omega)]
    refine cont _ (by omega) ((xLf.rf.at x_0 x_5).pv) hA.to.pl (gi_gpi_ne (Or.inl x_1)) (gi_gpi_ne (Or.inl x_2)) ?_
    rw [gl_gpl_eq, lN_i']
theorem x_e56 {F : Nat → Int32} {n x0 c lo sz k p fu : Nat} {σ : GS} {β : Type} {R : FE β → Option (Int32 × GS) → Prop} {K : Nat × List Nat → FE β} {k65 : GS → Nat → Nat → Int32 → Int32 → Option (Int32 × GS)} {x2 x5 : Int32} (hn : n ≤ 1300) (hp : p ≤ n) (hA : xA F n x0 p σ) (hr : xAr x0 c lo sz σ) (hk : k < sz)
    (out : ∀ er σ4, xLf x0 lo k σ σ4 → xWr x0 er σ4 → R (.error er) (x_readPool_492 fu k65 σ4 x0 c x2 (nI k) x5))
    (cont : ∀ σ4, p + 8 ≤ n → xLf x0 lo k σ σ4 → xA F n x0 (p + 8) σ4 → gi σ4 (lo + 1) k = gi σ (lo + 1) k → gi σ4 (lo + 2) k = gi σ (lo + 2) k → gl σ4 (lo + 3) k = (lN (U4 F p) <<< ((32 : Int32).toInt64 &&& 63)) ||| lN (U4 F (p + 4)) → R (K (p + 8, [])) (x_readPool_492 fu k65 σ4 x0 c x2 (nI k) x5)) :
    R (eb (eb (itS n p 4) fun _ => eb (itS n (p + 4) 4) fun _ => .ok (p + 8, [])) K) (x_readPool_338 fu k65 σ x0 c x2 (nI k) x5) := by
  obtain ⟨c1, ⟨r8, r9, r10⟩, ⟨k1, k2, k3⟩, ⟨n1, n2, n3⟩, hsz, ⟨x_0, x_1, x_2, x_5⟩⟩ := hr
  have e359 : ∀ (σ4 : GS) (a b : Int64), gk σ4 = gk σ → gr σ4 = gr σ → gn σ4 = gn σ → x_readPool_359 fu k65 σ4 x0 c x2 (nI k) x5 a b = x_readPool_492 fu k65 (gpl σ4 (lo + 3) k ((a <<< ((32 : Int32).toInt64 &&& 63)) ||| b)) x0 c x2 (nI k) x5 := by
    intro σ4 a b g1 g2 g3
    unfold x_readPool_359
    rw [ckT_ok (by rw [g1]; exact c1), g2, r10, ckK_ok (by rw [g1]; exact k3), g3, n3, ckIn_n hk hsz, nx_eq, nI_clamp (by omega)]
  unfold x_readPool_338
  rw [ckT_ok hA.1.1, x_next4_ok hA (by omega) hp]
  by_cases z2 : n < p + 4
  · rw [if_pos z2, Option.bind_some, show itS n p 4 = .error (1, p) from if_pos z2, ckT_ok (show gk ((0 : Int64), xwr σ x0 1 p).2 x0 = 1 from gk_xwr.trans hA.1.1), show gi ((0 : Int64), xwr σ x0 1 p).2 x0 8 = 1 from xwr8, if_neg i10, e359 _ _ _ (by rfl) (by rfl) (by rfl)]
    exact out (1, p) _ ((xLf.rf.wr x_0 x_5).pv) xwr_ok.pl
  have hA1 : xA F n x0 (p + 4) (gpi σ x0 6 (nI (p + 4))) := hA.to
  rw [if_neg z2, Option.bind_some, show itS n p 4 = .ok () from if_neg z2, eb_ok, ckT_ok (show gk (lN (U4 F p), gpi σ x0 6 (nI (p + 4))).2 x0 = 1 from gk_gpi.trans (hA1.1.1)), show gi (lN (U4 F p), gpi σ x0 6 (nI (p + 4))).2 x0 8 = 0 from hA1.2.2.1, if_pos rfl]
  show R _ ((x_next4 (gpi σ x0 6 (nI (p + 4))) x0).bind _)
  rw [x_next4_ok hA1 (by omega) (by omega)]
  by_cases z3 : n < p + 4 + 4
  · rw [if_pos z3, Option.bind_some, show itS n (p + 4) 4 = .error (1, p + 4) from if_pos z3, e359 _ _ _ (by rfl) (by rfl) (by rfl)]
    exact out (1, p + 4) _ (((xLf.rf.at x_0 x_5).wr x_0 x_5).pv) xwr_ok.pl
  · rw [if_neg z3, Option.bind_some, show itS n (p + 4) 4 = .ok () from if_neg z3, eb_ok, e359 _ _ _ (by rfl) (by rfl) (by rfl)]
    exact cont _ (by omega) (((xLf.rf.at x_0 x_5).at x_0 x_5).pv) hA1.to.pl ((gi_gpi_ne (Or.inl x_1)).trans (gi_gpi_ne (Or.inl x_1))) ((gi_gpi_ne (Or.inl x_2)).trans (gi_gpi_ne (Or.inl x_2))) gl_gpl_eq
theorem x_467 {x0 c k fu t : Nat} {k65 : GS → Nat → Nat → Int32 → Int32 → Option (Int32 × GS)} {x2 : Int32} (ht : t < 256) (σ4 : GS) : (if nI t < (9 : Int32) then x_readPool_467 fu k65 σ4 x0 c x2 (nI k) (nI t) else if nI t ≤ (12 : Int32) then x_readPool_481 fu k65 σ4 x0 c x2 (nI k) (nI t) else x_readPool_467 fu k65 σ4 x0 c x2 (nI k) (nI t)) = if twoT t then x_readPool_481 fu k65 σ4 x0 c x2 (nI k) (nI t) else x_readPool_492 fu k65 σ4 x0 c x2 (nI k) (nI t) := by
  unfold x_readPool_467
  generalize x_readPool_481 fu k65 σ4 x0 c x2 (nI k) (nI t) = X
  generalize x_readPool_492 fu k65 σ4 x0 c x2 (nI k) (nI t) = Y
  simp (disch := (first | omega | decide)) only [nI_eqL, nI_leL, nI_ltL, nI_Lle, nI_Llt, nI_eq, nI_leI, nI_ltI]
  by_cases z : twoT t
  · rw [if_pos z]
    repeat' split
    all_goals first | rfl | (exfalso; omega)
  · rw [if_neg z]
    repeat' split
    all_goals first | rfl | (exfalso; omega)
theorem x_e12 {F : Nat → Int32} {n x0 c lo sz k p fu t : Nat} {σ : GS} {β : Type} {R : FE β → Option (Int32 × GS) → Prop} {K : Nat × List Nat → FE β} {k65 : GS → Nat → Nat → Int32 → Int32 → Option (Int32 × GS)} {x2 : Int32} (hn : n ≤ 1300) (hp : p ≤ n) (ht : t < 256) (hA : xA F n x0 p σ) (hr : xAr x0 c lo sz σ) (hk : k < sz)
    (out : ∀ er σ4, xLf x0 lo k σ σ4 → xWr x0 er σ4 → R (.error er) (x_readPool_492 fu k65 σ4 x0 c x2 (nI k) (nI t)))
    (cont1 : ¬ twoT t → ∀ σ4, p + 2 ≤ n → xLf x0 lo k σ σ4 → xA F n x0 (p + 2) σ4 → gi σ4 (lo + 1) k = nI (U2 F p) → gi σ4 (lo + 2) k = gi σ (lo + 2) k → gl σ4 (lo + 3) k = gl σ (lo + 3) k → R (K (p + 2, [])) (x_readPool_492 fu k65 σ4 x0 c x2 (nI k) (nI t)))
    (cont2 : twoT t → ∀ σ4, p + 4 ≤ n → xLf x0 lo k σ σ4 → xA F n x0 (p + 4) σ4 → gi σ4 (lo + 1) k = nI (U2 F p) → gi σ4 (lo + 2) k = nI (U2 F (p + 2)) → gl σ4 (lo + 3) k = gl σ (lo + 3) k → R (K (p + 4, [])) (x_readPool_492 fu k65 σ4 x0 c x2 (nI k) (nI t))) :
    R (if twoT t then eb (eb (itS n p 2) fun _ => eb (itS n (p + 2) 2) fun _ => .ok (p + 4, [])) K else eb (eb (itS n p 2) fun _ => .ok (p + 2, [])) K) ((x_next2 σ x0).bind fun r16 => ckK r16.2 100 (gr σ c 8) fun a18 => ckIn (nI k) (gn r16.2 a18) (nx (gpi r16.2 a18 (nI k).toNatClampNeg r16.1) fun s22 => ckT s22 1 x0 (if (gi s22 x0 8) = 0 then if nI t < (9 : Int32) then x_readPool_467 fu k65 s22 x0 c x2 (nI k) (nI t) else if nI t ≤ (12 : Int32) then x_readPool_481 fu k65 s22 x0 c x2 (nI k) (nI t) else x_readPool_467 fu k65 s22 x0 c x2 (nI k) (nI t) else x_readPool_492 fu k65 s22 x0 c x2 (nI k) (nI t)))) := by
  obtain ⟨c1, ⟨r8, r9, r10⟩, ⟨k1, k2, k3⟩, ⟨n1, n2, n3⟩, hsz, ⟨x_0, x_1, x_2, x_5⟩⟩ := hr
  rw [x_next2_ok hA (by omega) hp, r8]
  by_cases z2 : n < p + 2
  · rw [if_pos z2, Option.bind_some, show itS n p 2 = .error (1, p) from if_pos z2, ckK_ok (show gk ((0 : Int32), xwr σ x0 1 p).2 (lo + 1) = 100 from gk_xwr.trans k1), show gn ((0 : Int32), xwr σ x0 1 p).2 (lo + 1) = sz from gn_xwr.trans n1, ckIn_n hk hsz, nx_eq, nI_clamp (by omega)]
    have hwr : xWr x0 (1, p) (gpi (xwr σ x0 1 p) (lo + 1) k 0) := xwr_ok.pi x_1
    rw [ckT_ok (show gk (gpi ((0 : Int32), xwr σ x0 1 p).2 (lo + 1) k ((0 : Int32), xwr σ x0 1 p).1) x0 = 1 from gk_gpi.trans (gk_xwr.trans hA.1.1)), show gi (gpi ((0 : Int32), xwr σ x0 1 p).2 (lo + 1) k ((0 : Int32), xwr σ x0 1 p).1) x0 8 = 1 from hwr.1, if_neg i10]
    have := out (1, p) _ ((xLf.rf.wr x_0 x_5).pa (d := 1) (v := 0) (by omega)) hwr
    split <;> exact this
  have hA1 : xA F n x0 (p + 2) (gpi σ x0 6 (nI (p + 2))) := hA.to
  rw [if_neg z2, Option.bind_some, show itS n p 2 = .ok () from if_neg z2, eb_ok, eb_ok, ckK_ok (show gk (nI (U2 F p), gpi σ x0 6 (nI (p + 2))).2 (lo + 1) = 100 from gk_gpi.trans (k1)), show gn (nI (U2 F p), gpi σ x0 6 (nI (p + 2))).2 (lo + 1) = sz from gn_gpi.trans (n1), ckIn_n hk hsz, nx_eq, nI_clamp (by omega)]
  show R _ (ckT (gpi (gpi σ x0 6 (nI (p + 2))) (lo + 1) k (nI (U2 F p))) 1 x0 _)
  generalize hs4 : gpi (gpi σ x0 6 (nI (p + 2))) (lo + 1) k (nI (U2 F p)) = σ4
  have A4 : xA F n x0 (p + 2) σ4 := by rw [← hs4]; exact hA1.pi (by rw [gk_gpi, k1]; decide) x_1
  have l4 : xLf x0 lo k σ σ4 := by rw [← hs4]; exact (xLf.rf.at x_0 x_5).pa (d := 1) (by omega)
  have v41 : gi σ4 (lo + 1) k = nI (U2 F p) := by rw [← hs4, gi_gpi_eq]
  have v42 : gi σ4 (lo + 2) k = gi σ (lo + 2) k := by rw [← hs4, gi_gpi_ne (Or.inl (by omega)), gi_gpi_ne (Or.inl x_2)]
  have gk4 : ∀ a, gk σ4 a = gk σ a := fun a => by rw [← hs4, gk_gpi, gk_gpi]
  have gn4 : ∀ a, gn σ4 a = gn σ a := fun a => by rw [← hs4, gn_gpi, gn_gpi]
  have gr4 : ∀ a j, gr σ4 a j = gr σ a j := fun a j => by rw [← hs4, gr_gpi, gr_gpi]
  have gl4 : ∀ a j, gl σ4 a j = gl σ a j := fun a j => by rw [← hs4, gl_gpi, gl_gpi]
  rw [ckT_ok A4.1.1, if_pos A4.2.2.1, x_467 ht]
  by_cases z : twoT t
  · rw [if_pos z, if_pos z]
    unfold x_readPool_481
    rw [ckT_ok (by rw [gk4]; exact c1), ckT_ok A4.1.1, x_next2_ok A4 (by omega) (by omega), gr4, r9]
    by_cases z3 : n < p + 2 + 2
    · rw [if_pos z3, Option.bind_some, show itS n (p + 2) 2 = .error (1, p + 2) from if_pos z3, ckK_ok (show gk ((0 : Int32), xwr σ4 x0 1 (p + 2)).2 (lo + 2) = 100 from gk_xwr.trans ((gk4 _).trans k2)), show gn ((0 : Int32), xwr σ4 x0 1 (p + 2)).2 (lo + 2) = sz from gn_xwr.trans ((gn4 _).trans n2), ckIn_n hk hsz, nx_eq, nI_clamp (by omega)]
      exact out (1, p + 2) _ ((l4.wr x_0 x_5).pa (d := 2) (by omega)) (xwr_ok.pi x_2)
    · rw [if_neg z3, Option.bind_some, show itS n (p + 2) 2 = .ok () from if_neg z3, eb_ok, ckK_ok (show gk (nI (U2 F (p + 2)), gpi σ4 x0 6 (nI (p + 2 + 2))).2 (lo + 2) = 100 from gk_gpi.trans ((gk4 _).trans k2)), show gn (nI (U2 F (p + 2)), gpi σ4 x0 6 (nI (p + 2 + 2))).2 (lo + 2) = sz from gn_gpi.trans ((gn4 _).trans n2), ckIn_n hk hsz, nx_eq, nI_clamp (by omega)]
      refine cont2 z _ (by omega) ((l4.at x_0 x_5).pa (d := 2) (by omega)) (A4.to.pi (by rw [gk_gpi, gk4, k2]; decide) x_2) ?_ gi_gpi_eq (gl_gpi.trans (gl_gpi.trans (gl4 _ _)))
      rw [gi_gpi_ne (Or.inl (by omega)), gi_gpi_ne (Or.inl x_1), v41]
  · rw [if_neg z, if_neg z]
    exact cont1 z σ4 (by omega) l4 A4 v41 v42 (gl4 _ _)
theorem x_e15 {F : Nat → Int32} {n x0 c lo sz k p fu : Nat} {σ : GS} {β : Type} {R : FE β → Option (Int32 × GS) → Prop} {K : Nat × List Nat → FE β} {k65 : GS → Nat → Nat → Int32 → Int32 → Option (Int32 × GS)} {x2 x5 : Int32} (hn : n ≤ 1300) (hp : p ≤ n) (hA : xA F n x0 p σ) (hr : xAr x0 c lo sz σ) (hk : k < sz)
    (err : ∀ er σ4, xLf x0 lo k σ σ4 → xWr x0 er σ4 → R (.error er) (some (0, σ4)))
    (out : ∀ er σ4, xLf x0 lo k σ σ4 → xWr x0 er σ4 → R (.error er) (x_readPool_492 fu k65 σ4 x0 c x2 (nI k) x5))
    (cont : ∀ σ4, p + 3 ≤ n → xLf x0 lo k σ σ4 → xA F n x0 (p + 3) σ4 → gi σ4 (lo + 1) k = nI (U1 F p) → gi σ4 (lo + 2) k = nI (U2 F (p + 1)) → gl σ4 (lo + 3) k = gl σ (lo + 3) k → R (K (p + 3, [])) (x_readPool_492 fu k65 σ4 x0 c x2 (nI k) x5)) :
    R (eb (eb (itS n p 1) fun _ => eb (itS n (p + 1) 2) fun _ => .ok (p + 3, [])) K) ((x_has σ x0 (1 : Int64)).bind fun r27 => if r27.1 = 0 then some ((0 : Int32), r27.2) else ckT r27.2 2 c (ckT r27.2 1 x0 ((x_u1 r27.2 x0 (gi r27.2 x0 6)).bind fun r32 => ckK r27.2 100 (gr r27.2 c 8) fun a34 => ckIn (nI k) (gn r27.2 a34) (nx (gpi r27.2 a34 (nI k).toNatClampNeg r32) fun s38 => nx (gpi s38 x0 6 ((gi s38 x0 6) + (1 : Int32))) fun s39 => (x_next2 s39 x0).bind fun r40 => ckK r40.2 100 (gr s39 c 9) fun a42 => ckIn (nI k) (gn r40.2 a42) (nx (gpi r40.2 a42 (nI k).toNatClampNeg r40.1) fun s46 => x_readPool_492 fu k65 s46 x0 c x2 (nI k) x5))))) := by
  obtain ⟨c1, ⟨r8, r9, r10⟩, ⟨k1, k2, k3⟩, ⟨n1, n2, n3⟩, hsz, ⟨x_0, x_1, x_2, x_5⟩⟩ := hr
  rw [show (1 : Int64) = lN 1 from rfl, x_has_ok hA (by omega) hp (by omega)]
  by_cases z2 : n < p + 1
  · rw [if_pos z2, Option.bind_some, if_pos rfl, show itS n p 1 = .error (1, p) from if_pos z2]
    exact err (1, p) _ (xLf.rf.wr x_0 x_5) xwr_ok
  rw [if_neg z2, Option.bind_some, if_neg i10, show itS n p 1 = .ok () from if_neg z2, eb_ok]
  show R _ (ckT σ 2 c (ckT σ 1 x0 ((x_u1 σ x0 (gi σ x0 6)).bind fun r32 => ckK σ 100 (gr σ c 8) _)))
  rw [ckT_ok c1, ckT_ok hA.1.1, hA.2.1, x_u1_ok hA.1 (by omega), Option.bind_some, r8, ckK_ok k1, n1, ckIn_n hk hsz, nx_eq, nI_clamp (by omega), nx_eq, gi_gpi_ne (Or.inl (fun z => x_1 z.symm)), hA.2.1, nI_1]
  generalize hs4 : gpi (gpi σ (lo + 1) k (nI (U1 F p))) x0 6 (nI (p + 1)) = σ4
  have A4 : xA F n x0 (p + 1) σ4 := by rw [← hs4]; exact (hA.pi (by rw [k1]; decide) x_1).to
  have l4 : xLf x0 lo k σ σ4 := by rw [← hs4]; exact (xLf.rf.pa (d := 1) (by omega)).at x_0 x_5
  have v41 : gi σ4 (lo + 1) k = nI (U1 F p) := by rw [← hs4, gi_gpi_ne (Or.inl x_1), gi_gpi_eq]
  have gk4 : ∀ a, gk σ4 a = gk σ a := fun a => by rw [← hs4, gk_gpi, gk_gpi]
  have gn4 : ∀ a, gn σ4 a = gn σ a := fun a => by rw [← hs4, gn_gpi, gn_gpi]
  have gr4 : ∀ a j, gr σ4 a j = gr σ a j := fun a j => by rw [← hs4, gr_gpi, gr_gpi]
  have gl4 : ∀ a j, gl σ4 a j = gl σ a j := fun a j => by rw [← hs4, gl_gpi, gl_gpi]
  rw [x_next2_ok A4 (by omega) (by omega), gr4, r9]
  by_cases z3 : n < p + 1 + 2
  · rw [if_pos z3, Option.bind_some, show itS n (p + 1) 2 = .error (1, p + 1) from if_pos z3, ckK_ok (show gk ((0 : Int32), xwr σ4 x0 1 (p + 1)).2 (lo + 2) = 100 from gk_xwr.trans ((gk4 _).trans k2)), show gn ((0 : Int32), xwr σ4 x0 1 (p + 1)).2 (lo + 2) = sz from gn_xwr.trans ((gn4 _).trans n2), ckIn_n hk hsz, nx_eq]
    exact out (1, p + 1) _ ((l4.wr x_0 x_5).pa (d := 2) (by omega)) (xwr_ok.pi x_2)
  · rw [if_neg z3, Option.bind_some, show itS n (p + 1) 2 = .ok () from if_neg z3, eb_ok, ckK_ok (show gk (nI (U2 F (p + 1)), gpi σ4 x0 6 (nI (p + 1 + 2))).2 (lo + 2) = 100 from gk_gpi.trans ((gk4 _).trans k2)), show gn (nI (U2 F (p + 1)), gpi σ4 x0 6 (nI (p + 1 + 2))).2 (lo + 2) = sz from gn_gpi.trans ((gn4 _).trans n2), ckIn_n hk hsz, nx_eq]
    refine cont _ (by omega) ((l4.at x_0 x_5).pa (d := 2) (by omega)) (A4.to.pi (by rw [gk_gpi, gk4, k2]; decide) x_2) ?_ gi_gpi_eq (gl_gpi.trans (gl_gpi.trans (gl4 _ _)))
    rw [gi_gpi_ne (Or.inl (by omega)), gi_gpi_ne (Or.inl x_1), v41]
theorem x_e34' {F : Nat → Int32} {n x0 c lo sz k p fu : Nat} {σ : GS} {β : Type} {R : FE β → Option (Int32 × GS) → Prop} {K : Nat × List Nat → FE β} {k65 : GS → Nat → Nat → Int32 → Int32 → Option (Int32 × GS)} {x2 x5 : Int32} (hn : n ≤ 1300) (hp : (p + 1) ≤ n) (hA : xA F n x0 (p + 1) σ) (hr : xAr x0 c lo sz σ) (hk : k < sz)
    (out : ∀ er σ4, xLf x0 lo k σ σ4 → xWr x0 er σ4 → R (.error er) (x_readPool_492 fu k65 σ4 x0 c x2 (nI k) x5))
    (cont : ∀ σ4, p + 5 ≤ n → xLf x0 lo k σ σ4 → xA F n x0 (p + 5) σ4 → gi σ4 (lo + 1) k = gi σ (lo + 1) k → gi σ4 (lo + 2) k = gi σ (lo + 2) k → gl σ4 (lo + 3) k = (nI (U4 F (p + 1))).toInt64 → R (K (p + 5, [])) (x_readPool_492 fu k65 σ4 x0 c x2 (nI k) x5)) :
    R (eb (eb (itS n (p + 1) 4) fun _ => .ok (p + 5, [])) K) (x_readPool_309 fu k65 σ x0 c x2 (nI k) x5) := by
  exact x_e34 (p := p + 1) hn hp hA hr hk out cont
theorem x_e56' {F : Nat → Int32} {n x0 c lo sz k p fu : Nat} {σ : GS} {β : Type} {R : FE β → Option (Int32 × GS) → Prop} {K : Nat × List Nat → FE β} {k65 : GS → Nat → Nat → Int32 → Int32 → Option (Int32 × GS)} {x2 x5 : Int32} (hn : n ≤ 1300) (hp : (p + 1) ≤ n) (hA : xA F n x0 (p + 1) σ) (hr : xAr x0 c lo sz σ) (hk : k < sz)
    (out : ∀ er σ4, xLf x0 lo k σ σ4 → xWr x0 er σ4 → R (.error er) (x_readPool_492 fu k65 σ4 x0 c x2 (nI k) x5))
    (cont : ∀ σ4, p + 9 ≤ n → xLf x0 lo k σ σ4 → xA F n x0 (p + 9) σ4 → gi σ4 (lo + 1) k = gi σ (lo + 1) k → gi σ4 (lo + 2) k = gi σ (lo + 2) k → gl σ4 (lo + 3) k = (lN (U4 F (p + 1)) <<< ((32 : Int32).toInt64 &&& 63)) ||| lN (U4 F (p + 5)) → R (K (p + 9, [])) (x_readPool_492 fu k65 σ4 x0 c x2 (nI k) x5)) :
    R (eb (eb (itS n (p + 1) 4) fun _ => eb (itS n (p + 5) 4) fun _ => .ok (p + 9, [])) K) (x_readPool_338 fu k65 σ x0 c x2 (nI k) x5) := by
  exact x_e56 (p := p + 1) hn hp hA hr hk out cont
theorem x_e12' {F : Nat → Int32} {n x0 c lo sz k p fu t : Nat} {σ : GS} {β : Type} {R : FE β → Option (Int32 × GS) → Prop} {K : Nat × List Nat → FE β} {k65 : GS → Nat → Nat → Int32 → Int32 → Option (Int32 × GS)} {x2 : Int32} (hn : n ≤ 1300) (hp : (p + 1) ≤ n) (ht : t < 256) (hA : xA F n x0 (p + 1) σ) (hr : xAr x0 c lo sz σ) (hk : k < sz)
    (out : ∀ er σ4, xLf x0 lo k σ σ4 → xWr x0 er σ4 → R (.error er) (x_readPool_492 fu k65 σ4 x0 c x2 (nI k) (nI t)))
    (cont1 : ¬ twoT t → ∀ σ4, p + 3 ≤ n → xLf x0 lo k σ σ4 → xA F n x0 (p + 3) σ4 → gi σ4 (lo + 1) k = nI (U2 F (p + 1)) → gi σ4 (lo + 2) k = gi σ (lo + 2) k → gl σ4 (lo + 3) k = gl σ (lo + 3) k → R (K (p + 3, [])) (x_readPool_492 fu k65 σ4 x0 c x2 (nI k) (nI t)))
    (cont2 : twoT t → ∀ σ4, p + 5 ≤ n → xLf x0 lo k σ σ4 → xA F n x0 (p + 5) σ4 → gi σ4 (lo + 1) k = nI (U2 F (p + 1)) → gi σ4 (lo + 2) k = nI (U2 F (p + 3)) → gl σ4 (lo + 3) k = gl σ (lo + 3) k → R (K (p + 5, [])) (x_readPool_492 fu k65 σ4 x0 c x2 (nI k) (nI t))) :
    R (if twoT t then eb (eb (itS n (p + 1) 2) fun _ => eb (itS n (p + 3) 2) fun _ => .ok (p + 5, [])) K else eb (eb (itS n (p + 1) 2) fun _ => .ok (p + 3, [])) K) ((x_next2 σ x0).bind fun r16 => ckK r16.2 100 (gr σ c 8) fun a18 => ckIn (nI k) (gn r16.2 a18) (nx (gpi r16.2 a18 k r16.1) fun s22 => ckT s22 1 x0 (if (gi s22 x0 8) = 0 then if nI t < (9 : Int32) then x_readPool_467 fu k65 s22 x0 c x2 (nI k) (nI t) else if nI t ≤ (12 : Int32) then x_readPool_481 fu k65 s22 x0 c x2 (nI k) (nI t) else x_readPool_467 fu k65 s22 x0 c x2 (nI k) (nI t) else x_readPool_492 fu k65 s22 x0 c x2 (nI k) (nI t)))) := by
  have h := x_e12 (R := R) (p := p + 1) hn hp ht hA hr hk out cont1 cont2
  rw [nI_clamp (show k < 2 ^ 31 by have := hr.2.2.2.2.1; omega)] at h
  exact h
theorem x_e15' {F : Nat → Int32} {n x0 c lo sz k p fu : Nat} {σ : GS} {β : Type} {R : FE β → Option (Int32 × GS) → Prop} {K : Nat × List Nat → FE β} {k65 : GS → Nat → Nat → Int32 → Int32 → Option (Int32 × GS)} {x2 x5 : Int32} (hn : n ≤ 1300) (hp : (p + 1) ≤ n) (hA : xA F n x0 (p + 1) σ) (hr : xAr x0 c lo sz σ) (hk : k < sz)
    (err : ∀ er σ4, xLf x0 lo k σ σ4 → xWr x0 er σ4 → R (.error er) (some (0, σ4)))
    (out : ∀ er σ4, xLf x0 lo k σ σ4 → xWr x0 er σ4 → R (.error er) (x_readPool_492 fu k65 σ4 x0 c x2 (nI k) x5))
    (cont : ∀ σ4, p + 4 ≤ n → xLf x0 lo k σ σ4 → xA F n x0 (p + 4) σ4 → gi σ4 (lo + 1) k = nI (U1 F (p + 1)) → gi σ4 (lo + 2) k = nI (U2 F (p + 2)) → gl σ4 (lo + 3) k = gl σ (lo + 3) k → R (K (p + 4, [])) (x_readPool_492 fu k65 σ4 x0 c x2 (nI k) x5)) :
    R (eb (eb (itS n (p + 1) 1) fun _ => eb (itS n (p + 2) 2) fun _ => .ok (p + 4, [])) K) ((x_has σ x0 (1 : Int64)).bind fun r27 => if r27.1 = 0 then some ((0 : Int32), r27.2) else ckT r27.2 2 c (ckT r27.2 1 x0 ((x_u1 r27.2 x0 (gi r27.2 x0 6)).bind fun r32 => ckK r27.2 100 (gr r27.2 c 8) fun a34 => ckIn (nI k) (gn r27.2 a34) (nx (gpi r27.2 a34 k r32) fun s38 => nx (gpi s38 x0 6 ((gi s38 x0 6) + (1 : Int32))) fun s39 => (x_next2 s39 x0).bind fun r40 => ckK r40.2 100 (gr s39 c 9) fun a42 => ckIn (nI k) (gn r40.2 a42) (nx (gpi r40.2 a42 k r40.1) fun s46 => x_readPool_492 fu k65 s46 x0 c x2 (nI k) x5))))) := by
  have h := x_e15 (R := R) (p := p + 1) hn hp hA hr hk err out cont
  rw [nI_clamp (show k < 2 ^ 31 by have := hr.2.2.2.2.1; omega)] at h
  exact h
end XEnt
