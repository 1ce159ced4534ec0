/-! the component's structure, from its start -/
section XStr3
set_option maxRecDepth 100000
/-- where a fault was told already -/
theorem x_next2_flag {F : Nat → Int32} {n x0 p : Nat} {σ : GS} (hF : xF F n x0 σ) (h6 : gi σ x0 6 = nI p) (h8 : gi σ x0 8 = 1) (hn : n ≤ 20000) (hp : p ≤ n) (hnp : n < p + 2) : x_next2 σ x0 = some (0, σ) := by
  obtain ⟨a1, g, a2, a3, a4, a5, a6⟩ := hF
  have hh : x_has σ x0 (2 : Int64) = some (0, σ) := by
    unfold x_has x_has_0 x_has_28
    rw [ckT_ok a1, a2, ckK_ok a3, a4, h6, pk_sub hp, nI_l (by omega), show (2 : Int64) = lN 2 from rfl]
    rw [if_neg (fun q => by have := (cmp_le (by omega) (by omega)).mp q; omega)]
    unfold x_wrong x_wrong_0
    rw [ckT_ok a1, h8, if_neg i10, Option.bind_some, if_pos rfl]
  unfold x_next2 x_next2_0
  rw [ckT_ok a1, hh, Option.bind_some, if_pos rfl]
/-- what holds while the head of the file is read -/
def xB (F : Nat → Int32) (n x0 c b v cm C S p : Nat) (u : List Nat) (σ : GS) : Prop := (WF σ ∧ xA F n x0 p σ ∧ gk σ c = 2 ∧ gr σ x0 11 = some b ∧ bS u b v σ ∧ c ≠ x0) ∧ ((∀ q, gr σ x0 2 = some q → q ≠ v ∧ q ≠ cm) ∧ gk σ cm = 101) ∧ C + 2 * n + 9 ≤ gc σ ∧ S + 16 + 5 * n ≤ gs σ + 2 * gn σ v
def w6 (x0 c a j : Nat) : Prop := wx x0 a j ∨ (a = c ∧ (j = 1 ∨ j = 2 ∨ j = 6))
theorem w6.to5 {x0 c b v a j : Nat} (h : w6 x0 c a j) : w5 x0 c b v a j := by
  rcases h with z | z
  · exact Or.inr (Or.inl ⟨z.1, by have := z.2; omega⟩)
  · exact Or.inr (Or.inr ⟨z.1, by have := z.2; omega⟩)
theorem xB.bs {F : Nat → Int32} {n x0 c b v cm C S p : Nat} {u : List Nat} {σ σ1 : GS} (h : xB F n x0 c b v cm C S p u σ) (f : Fq (w6 x0 c) σ σ1) : bS u b v σ1 ∧ gn σ1 v = gn σ v := by
  obtain ⟨⟨h1, h2, h3, h4, h5, h5x⟩, h6, h7, h8⟩ := h
  refine h5.fr f h1 (fun j z => ?_) (fun j z => ?_)
  · rcases z with z | z
    · have := h5.1
      rw [z.1, h2.1.1] at this
      exact absurd this (by decide)
    · have := h5.1
      rw [z.1, h3] at this
      exact absurd this (by decide)
  · rcases z with z | z
    · have := h5.2.2.1
      rw [z.1, h2.1.1] at this
      exact absurd this (by decide)
    · have := h5.2.2.1
      rw [z.1, h3] at this
      exact absurd this (by decide)
theorem xB.err {F : Nat → Int32} {n x0 c b v cm C S p : Nat} {u : List Nat} {σ σ1 : GS} {er : Nat × Nat} (h : xB F n x0 c b v cm C S p u σ) (f : Fq (w6 x0 c) σ σ1) (hwr : xWr x0 er σ1) (h1 : gc σ1 = gc σ) (h2 : gs σ1 = gs σ) : xS5 F n x0 c b v cm C S (.error er) σ (some (none, σ1)) := by
  obtain ⟨g1, g2⟩ := h.bs f
  obtain ⟨-, h6, h7, h8⟩ := h
  exact ⟨σ1, v, u, rfl, hwr, g1, Or.inl rfl, f.mo (fun _ _ _ z => z.to5), by omega, by rw [g2]; omega⟩
theorem xB.to {F : Nat → Int32} {n x0 c b v cm C S p q : Nat} {u : List Nat} {σ : GS} (h : xB F n x0 c b v cm C S p u σ) : xB F n x0 c b v cm C S q u (gpi σ x0 6 (nI q)) := by
  have f : Fq (w6 x0 c) σ (gpi σ x0 6 (nI q)) := Fq.pi (Or.inl ⟨rfl, by omega⟩)
  obtain ⟨g1, g2⟩ := h.bs f
  obtain ⟨⟨h1, h2, h3, h4, h5, h5x⟩, h6, h7, h8⟩ := h
  exact ⟨⟨f.wf h1, h2.to, gk_gpi.trans h3, gr_gpi.trans h4, g1, h5x⟩, ⟨fun g hg => h6.1 g (gr_gpi.symm.trans hg), gk_gpi.trans h6.2⟩, by rw [gc_gpi]; exact h7, by rw [gs_gpi, g2]; exact h8⟩
theorem xB.pc {F : Nat → Int32} {n x0 c b v cm C S p j : Nat} {w : Int32} {u : List Nat} {σ : GS} (h : xB F n x0 c b v cm C S p u σ) (hj : j = 1 ∨ j = 2 ∨ j = 6) : xB F n x0 c b v cm C S p u (gpi σ c j w) := by
  have f : Fq (w6 x0 c) σ (gpi σ c j w) := Fq.pi (Or.inr ⟨rfl, hj⟩)
  obtain ⟨g1, g2⟩ := h.bs f
  obtain ⟨⟨h1, h2, h3, h4, h5, h5x⟩, h6, h7, h8⟩ := h
  exact ⟨⟨f.wf h1, h2.pi (by rw [h3]; decide) h5x, gk_gpi.trans h3, gr_gpi.trans h4, g1, h5x⟩, ⟨fun g hg => h6.1 g (gr_gpi.symm.trans hg), gk_gpi.trans h6.2⟩, by rw [gc_gpi]; exact h7, by rw [gs_gpi, g2]; exact h8⟩
theorem xWr.pc {x0 c j : Nat} {er : Nat × Nat} {w : Int32} {σ : GS} (h : xWr x0 er σ) (hc : c ≠ x0) : xWr x0 er (gpi σ c j w) := ⟨(gi_gpi_ne (Or.inl (fun z => hc z.symm))).trans h.1, (gi_gpi_ne (Or.inl (fun z => hc z.symm))).trans h.2.1, (gi_gpi_ne (Or.inl (fun z => hc z.symm))).trans h.2.2⟩
theorem x_s117 {F : Nat → Int32} {n x0 c b v cm C S fu : Nat} {u : List Nat} {σ : GS} (hn : n ≤ 1300) (h8n : 8 ≤ n) (h45 : 45 ≤ U2 F 6) (hfu : 65536 < fu) (hS : 40000 ≤ S) (hB : xB F n x0 c b v cm C S 8 u σ) (hc1 : gi σ c 1 = nI (U2 F 6)) (hc2 : gi σ c 2 = nI (U2 F 4)) :
    xS5 F n x0 c b v cm C S (file117 F n) σ (x_structure_117 fu σ x0 c) := by
  have hx := hB.1.2.1.1.1
  have hc := hB.1.2.2.1
  have ncx := hB.1.2.2.2.2.2
  have hu := U2_lt F 8
  unfold x_structure_117 file117
  rw [ckT_ok hx, x_next2_ok hB.1.2.1 (by omega) (by omega)]
  by_cases z : n < 8 + 2
  · rw [if_pos z, Option.bind_some, show itS n 8 2 = .error (1, 8) from if_pos z, ckT_ok (show gk ((0 : Int32), xwr σ x0 1 8).2 c = 2 from gk_xwr.trans hc), nx_eq]
    have hwr : xWr x0 (1, 8) (gpi (xwr σ x0 1 8) c 6 0) := xwr_ok.pc ncx
    show xS5 F n x0 c b v cm C S _ σ (ckT (gpi (xwr σ x0 1 8) c 6 0) 1 x0 (if gi (gpi (xwr σ x0 1 8) c 6 0) x0 8 = 0 then _ else some (none, gpi (xwr σ x0 1 8) c 6 0)))
    rw [ckT_ok (gk_gpi.trans (gk_xwr.trans hx)), hwr.1, if_neg i10]
    exact hB.err ((Fq.wr (fun _ _ z => Or.inl z)).tr (Fq.pi (Or.inr ⟨rfl, by omega⟩))) hwr (gc_gpi.trans gc_xwr) (gs_gpi.trans gs_xwr)
  · rw [if_neg z, Option.bind_some, show itS n 8 2 = .ok () from if_neg z, eb_ok]
    have B2 := (hB.to (q := 8 + 2)).pc (j := 6) (w := nI (U2 F 8)) (by omega)
    show xS5 F n x0 c b v cm C S _ σ (ckT (gpi σ x0 6 (nI (8 + 2))) 2 c (nx (gpi (gpi σ x0 6 (nI (8 + 2))) c 6 (nI (U2 F 8))) _))
    rw [ckT_ok (gk_gpi.trans hc), nx_eq]
    refine xS5.fr (σ1 := gpi (gpi σ x0 6 (nI (8 + 2))) c 6 (nI (U2 F 8))) ((Fq.pi (W := w6 x0 c) (Or.inl ⟨rfl, by omega⟩)).tr (Fq.pi (Or.inr ⟨rfl, by omega⟩)) |>.mo (fun _ _ _ z => z.to5)) ?_
    have c1 : gi (gpi (gpi σ x0 6 (nI (8 + 2))) c 6 (nI (U2 F 8))) c 1 = nI (U2 F 6) := (gi_gpi_ne (Or.inr (by decide))).trans ((gi_gpi_ne (Or.inl ncx)).trans hc1)
    have c2 : gi (gpi (gpi σ x0 6 (nI (8 + 2))) c 6 (nI (U2 F 8))) c 2 = nI (U2 F 4) := (gi_gpi_ne (Or.inr (by decide))).trans ((gi_gpi_ne (Or.inl ncx)).trans hc2)
    have c6 : gi (gpi (gpi σ x0 6 (nI (8 + 2))) c 6 (nI (U2 F 8))) c 6 = nI (U2 F 8) := gi_gpi_eq
    generalize gpi (gpi σ x0 6 (nI (8 + 2))) c 6 (nI (U2 F 8)) = σ2 at *
    rw [ckT_ok B2.1.2.1.1.1, if_pos B2.1.2.1.2.2.1, c6]
    by_cases h0 : U2 F 8 = 0
    · rw [if_pos h0, if_pos (by rw [h0]; rfl), show (4 : Int32) = nI 4 from rfl, show (8 : Int32) = nI 8 from rfl, x_wrong_ok B2.1.2.1.1.1 B2.1.2.1.2.2, Option.bind_some, if_pos rfl]
      exact B2.err (Fq.wr (fun _ _ z => Or.inl z)) xwr_ok gc_xwr gs_xwr
    · rw [if_neg h0, if_neg (show ¬ nI (U2 F 8) = (0 : Int32) from fun w => h0 ((nI_eq (b := 0) (by omega) (by omega)).mp w))]
      obtain ⟨⟨g1, g2, g3, g4, g5, -⟩, g6, g7, g8⟩ := B2
      exact x_s149 hn (by omega) h45 (by omega) hfu hS g1 g2 g3 c1 c2 c6 g4 g5 g6.1 g6.2 g7 g8
theorem x_s49 {F : Nat → Int32} {n x0 c b v cm C S fu : Nat} {u : List Nat} {σ : GS} (hn : n ≤ 1300) (h4n : 4 ≤ n) (hfu : 65536 < fu) (hS : 40000 ≤ S) (hB : xB F n x0 c b v cm C S 4 u σ) :
    xS5 F n x0 c b v cm C S (file49 F n) σ (x_structure_49 fu σ x0 c) := by
  have hx := hB.1.2.1.1.1
  have hc := hB.1.2.2.1
  have ncx := hB.1.2.2.2.2.2
  have hu := U2_lt F 4
  have hu6 := U2_lt F 6
  unfold x_structure_49 file49
  rw [ckT_ok hx, x_next2_ok hB.1.2.1 (by omega) (by omega)]
  by_cases z : n < 4 + 2
  · rw [if_pos z, Option.bind_some, show itS n 4 2 = .error (1, 4) from if_pos z, ckT_ok (show gk ((0 : Int32), xwr σ x0 1 4).2 c = 2 from gk_xwr.trans hc), nx_eq]
    show xS5 F n x0 c b v cm C S _ σ (ckT (gpi (xwr σ x0 1 4) c 2 0) 1 x0 ((x_next2 (gpi (xwr σ x0 1 4) c 2 0) x0).bind _))
    have hwr : xWr x0 (1, 4) (gpi (xwr σ x0 1 4) c 2 0) := xwr_ok.pc ncx
    have F2 : xF F n x0 (gpi (xwr σ x0 1 4) c 2 0) := by
      have f : Fq (w6 x0 c) σ (gpi (xwr σ x0 1 4) c 2 0) := (Fq.wr (fun _ _ z => Or.inl z)).tr (Fq.pi (Or.inr ⟨rfl, by omega⟩))
      refine hB.1.2.1.1.fr f hB.1.1 (fun z => ?_) (fun g hg j z => ?_)
      · rcases z with z | z
        · have := z.2
          omega
        · exact ncx z.1.symm
      · obtain ⟨k1, f2, k2, k3, -⟩ := hB.1.2.1.1
        rw [k2] at hg
        have e := Option.some.inj hg
        subst e
        rcases z with z | z
        · rw [z.1, k1] at k3
          exact absurd k3 (by decide)
        · rw [z.1, hc] at k3
          exact absurd k3 (by decide)
    have h6 : gi (gpi (xwr σ x0 1 4) c 2 0) x0 6 = nI 4 := (gi_gpi_ne (Or.inl (fun z => ncx z.symm))).trans ((gi_gpi_ne (Or.inr (by decide))).trans ((gi_gpi_ne (Or.inr (by decide))).trans ((gi_gpi_ne (Or.inr (by decide))).trans hB.1.2.1.2.1)))
    rw [ckT_ok F2.1, x_next2_flag F2 h6 hwr.1 (by omega) (by omega) (by omega), Option.bind_some]
    show xS5 F n x0 c b v cm C S _ σ (ckT (gpi (xwr σ x0 1 4) c 2 0) 2 c (nx (gpi (gpi (xwr σ x0 1 4) c 2 0) c 1 0) _))
    have hwr2 : xWr x0 (1, 4) (gpi (gpi (xwr σ x0 1 4) c 2 0) c 1 0) := hwr.pc ncx
    rw [ckT_ok (gk_gpi.trans (gk_xwr.trans hc)), nx_eq, ckT_ok (gk_gpi.trans F2.1), hwr2.1, if_neg i10]
    exact hB.err ((Fq.wr (fun _ _ z => Or.inl z)).tr ((Fq.pi (Or.inr ⟨rfl, by omega⟩)).tr (Fq.pi (Or.inr ⟨rfl, by omega⟩)))) hwr2 (gc_gpi.trans (gc_gpi.trans gc_xwr)) (gs_gpi.trans (gs_gpi.trans gs_xwr))
  rw [if_neg z, Option.bind_some, show itS n 4 2 = .ok () from if_neg z, eb_ok]
  have B2 := (hB.to (q := 4 + 2)).pc (j := 2) (w := nI (U2 F 4)) (by omega)
  show xS5 F n x0 c b v cm C S _ σ (ckT (gpi σ x0 6 (nI (4 + 2))) 2 c (nx (gpi (gpi σ x0 6 (nI (4 + 2))) c 2 (nI (U2 F 4))) _))
  rw [ckT_ok (gk_gpi.trans hc), nx_eq]
  refine xS5.fr (σ1 := gpi (gpi σ x0 6 (nI (4 + 2))) c 2 (nI (U2 F 4))) ((Fq.pi (W := w6 x0 c) (Or.inl ⟨rfl, by omega⟩)).tr (Fq.pi (Or.inr ⟨rfl, by omega⟩)) |>.mo (fun _ _ _ z => z.to5)) ?_
  have c2 : gi (gpi (gpi σ x0 6 (nI (4 + 2))) c 2 (nI (U2 F 4))) c 2 = nI (U2 F 4) := gi_gpi_eq
  generalize gpi (gpi σ x0 6 (nI (4 + 2))) c 2 (nI (U2 F 4)) = σ2 at *
  clear hB hx hc
  have hx := B2.1.2.1.1.1
  have hc := B2.1.2.2.1
  rw [ckT_ok hx, x_next2_ok B2.1.2.1 (by omega) (by omega)]
  by_cases z6 : n < 4 + 2 + 2
  · rw [if_pos z6, Option.bind_some, show itS n 6 2 = .error (1, 6) from if_pos z6, ckT_ok (show gk ((0 : Int32), xwr σ2 x0 1 (4 + 2)).2 c = 2 from gk_xwr.trans hc), nx_eq]
    have hwr : xWr x0 (1, 6) (gpi (xwr σ2 x0 1 (4 + 2)) c 1 0) := xwr_ok.pc ncx
    show xS5 F n x0 c b v cm C S _ σ2 (ckT (gpi (xwr σ2 x0 1 (4 + 2)) c 1 0) 1 x0 (if gi (gpi (xwr σ2 x0 1 (4 + 2)) c 1 0) x0 8 = 0 then _ else some (none, gpi (xwr σ2 x0 1 (4 + 2)) c 1 0)))
    rw [ckT_ok (gk_gpi.trans (gk_xwr.trans hx)), hwr.1, if_neg i10]
    exact B2.err ((Fq.wr (fun _ _ z => Or.inl z)).tr (Fq.pi (Or.inr ⟨rfl, by omega⟩))) hwr (gc_gpi.trans gc_xwr) (gs_gpi.trans gs_xwr)
  rw [if_neg z6, Option.bind_some, show itS n 6 2 = .ok () from if_neg z6, eb_ok]
  have B3 := (B2.to (q := 4 + 2 + 2)).pc (j := 1) (w := nI (U2 F (4 + 2))) (by omega)
  show xS5 F n x0 c b v cm C S _ σ2 (ckT (gpi σ2 x0 6 (nI (4 + 2 + 2))) 2 c (nx (gpi (gpi σ2 x0 6 (nI (4 + 2 + 2))) c 1 (nI (U2 F (4 + 2)))) _))
  rw [ckT_ok (gk_gpi.trans hc), nx_eq]
  refine xS5.fr (σ1 := gpi (gpi σ2 x0 6 (nI (4 + 2 + 2))) c 1 (nI (U2 F (4 + 2)))) ((Fq.pi (W := w6 x0 c) (Or.inl ⟨rfl, by omega⟩)).tr (Fq.pi (Or.inr ⟨rfl, by omega⟩)) |>.mo (fun _ _ _ z => z.to5)) ?_
  have c1 : gi (gpi (gpi σ2 x0 6 (nI (4 + 2 + 2))) c 1 (nI (U2 F (4 + 2)))) c 1 = nI (U2 F 6) := gi_gpi_eq
  have c3 : gi (gpi (gpi σ2 x0 6 (nI (4 + 2 + 2))) c 1 (nI (U2 F (4 + 2)))) c 2 = nI (U2 F 4) := (gi_gpi_ne (Or.inr (by decide))).trans ((gi_gpi_ne (Or.inl ncx)).trans c2)
  generalize gpi (gpi σ2 x0 6 (nI (4 + 2 + 2))) c 1 (nI (U2 F (4 + 2))) = σ3 at *
  clear B2 hx hc c2
  have hx := B3.1.2.1.1.1
  have e106 : x_structure_106 fu σ3 x0 c = some (none, xwr σ3 x0 3 4) := by
    unfold x_structure_106
    rw [ckT_ok hx, show (3 : Int32) = nI 3 from rfl, show (4 : Int32) = nI 4 from rfl, x_wrong_ok hx B3.1.2.1.2.2, Option.bind_some, if_pos rfl]
  rw [ckT_ok hx, if_pos B3.1.2.1.2.2.1, c1, c3, e106]
  have er := B3.err (er := (3, 4)) (Fq.wr (r := 3) (p := 4) (fun _ _ z => Or.inl z)) xwr_ok gc_xwr gs_xwr
  by_cases hb : U2 F 6 < 45 ∨ 61 < U2 F 6 ∨ (56 ≤ U2 F 6 ∧ U2 F 4 ≠ 0)
  · rw [if_pos hb]
    have e0 : ∀ o o2 : Option (Option Nat × GS), (if nI (U2 F 6) < (45 : Int32) then o else if (61 : Int32) < nI (U2 F 6) then o else if nI (U2 F 6) < (56 : Int32) then o2 else if nI (U2 F 4) = 0 then o2 else o) = o := by
      intro o o2
      simp (disch := (first | omega | decide)) only [nI_eqL, nI_leL, nI_ltL, nI_Lle, nI_Llt, nI_eq, nI_leI, nI_ltI]
      by_cases q1 : U2 F 6 < 45
      · rw [if_pos q1]
      rw [if_neg q1]
      by_cases q2 : 61 < U2 F 6
      · rw [if_pos q2]
      rw [if_neg q2, if_neg (by omega), if_neg (by omega)]
    rw [e0]
    exact er
  · rw [if_neg hb]
    have e0 : ∀ o o2 : Option (Option Nat × GS), (if nI (U2 F 6) < (45 : Int32) then o else if (61 : Int32) < nI (U2 F 6) then o else if nI (U2 F 6) < (56 : Int32) then o2 else if nI (U2 F 4) = 0 then o2 else o) = o2 := by
      intro o o2
      simp (disch := (first | omega | decide)) only [nI_eqL, nI_leL, nI_ltL, nI_Lle, nI_Llt, nI_eq, nI_leI, nI_ltI]
      rw [if_neg (by omega), if_neg (by omega)]
      by_cases q1 : U2 F 6 < 56
      · rw [if_pos q1]
      rw [if_neg q1, if_pos (by omega)]
    rw [e0]
    exact x_s117 hn (by omega) (by omega) hfu hS B3 c1 c3
end XStr3
