/-! read: the component, whole -/
section XRead2
set_option maxRecDepth 100000
theorem x_read_ok {F : Nat → Int32} {n x0 b v cm C S fu : Nat} {u : List Nat} {σ : GS} (hn : n ≤ 1300) (hfu : 131072 < fu) (hS : 60000 ≤ S) (hw : WF σ) (hF : xF F n x0 σ) (hb : gr σ x0 11 = some b) (hB : bS u b v σ) (hfv : ∀ q, gr σ x0 2 = some q → q ≠ v ∧ q ≠ cm) (kcm : gk σ cm = 101) (hLi : xLi (nN x0 b v cm σ) σ) (hC : C + 5 * n + 30 ≤ gc σ) (hS2 : S + 16 * n + 100 ≤ gs σ + 2 * gn σ v) :
    xRd F n x0 b v cm C S (chkS F n) σ (x_read fu σ x0) := by
  have hx := hF.1
  have lx : x0 < gx σ := hw.lt (by rw [hx]; decide)
  have lcm : cm < gx σ := hw.lt (by rw [kcm]; decide)
  have nxb : x0 ≠ b := fun z => by have := hB.1; rw [← z, hx] at this; exact absurd this (by decide)
  have nxv : x0 ≠ v := fun z => by have := hB.2.2.1; rw [← z, hx] at this; exact absurd this (by decide)
  unfold x_read x_read_0 chkS
  rw [ckT_ok hx, nx_eq, nx_eq]
  have f3 : Fq (fun a j => a = x0 ∧ (j = 3 ∨ j = 4)) σ (gpi (gpi σ x0 3 0) x0 4 (-1)) := (Fq.pi ⟨rfl, by omega⟩).tr (Fq.pi ⟨rfl, by omega⟩)
  have F3 : xF F n x0 (gpi (gpi σ x0 3 0) x0 4 (-1)) := hF.put.put
  have i33 : gi (gpi (gpi σ x0 3 0) x0 4 (-1)) x0 3 = 0 := by rw [gi_gpi_ne (Or.inr (by decide)), gi_gpi_eq]
  have i34 : gi (gpi (gpi σ x0 3 0) x0 4 (-1)) x0 4 = -1 := gi_gpi_eq
  have g3 : ∀ a j, gr (gpi (gpi σ x0 3 0) x0 4 (-1)) a j = gr σ a j := fun a j => gr_gpi.trans gr_gpi
  have c3 : gc (gpi (gpi σ x0 3 0) x0 4 (-1)) = gc σ := gc_gpi.trans gc_gpi
  have s3 : gs (gpi (gpi σ x0 3 0) x0 4 (-1)) = gs σ := gs_gpi.trans gs_gpi
  have x3 : gx (gpi (gpi σ x0 3 0) x0 4 (-1)) = gx σ := gx_gpi.trans gx_gpi
  obtain ⟨B3, n3⟩ := hB.fr f3 hw (fun j z => nxb z.1.symm) (fun j z => nxv z.1.symm)
  generalize gpi (gpi σ x0 3 0) x0 4 (-1) = t3 at *
  have hw3 := f3.wf hw
  have hSt := x_structure_ok (F := F) (n := n) (x0 := x0) (b := b) (v := v) (cm := cm) (C := C + 3 * n + 4) (S := S + 11 * n) (fu := fu) (u := u) hn (by omega) (by omega) hw3 F3 ⟨i33, i34⟩ (by rw [g3]; exact hb) B3 (fun q hq => hfv q (by rw [← g3]; exact hq)) (f3.gk hw kcm (by decide)) (by omega) (by rw [n3]; omega)
  revert hSt
  cases hE : fileS F n with
  | error er =>
    rintro ⟨σ1, v', t', a1, a2, a3, a4, a5, a6, a7⟩
    rw [a1, Option.bind_some, if_pos rfl]
    have lx3 : x0 < gx t3 := by omega
    refine x_read_end (a5.wf hw3) (a5.gk hw3 F3.1 (by decide)) a3 (by omega) (f3.trw a5 (fun a j _ z => Or.inr ⟨z.1, by have := z.2; omega⟩) (fun a j _ z => ?_)) (by omega) (by omega) er a2 ((a5.gr lx3 (fun z => ?_)).trans (g3 x0 5))
    · rcases z with z | z
      · exact Or.inl z
      · exact Or.inr ⟨z.1, by have := z.2; omega⟩
    · rcases z with (z | z) | z
      · exact nxb z
      · exact nxv z
      · have := z.2
        omega
  | ok r =>
    rintro ⟨σ1, v', t', c, lo, a1, ⟨hc0, h81, hNw, hP⟩, B1, hv', fq1, C1, S1⟩
    have hFO := fileS_FO hn hE
    obtain ⟨A, T, hd, fa, ma, aa⟩ := r
    obtain ⟨g, hd10, hfa, hfan, hmf, hmm, hma⟩ := hFO
    dsimp only at g hd10 hfa hfan hmf hmm hma
    have hw1 := fq1.wf hw3
    have hx1 : gk σ1 x0 = 1 := hP.2.1.1
    have hc1 : gk σ1 c = 2 := hP.1.1.1
    have lx1 : x0 < gx σ1 := hw1.lt (by rw [hx1]; decide)
    have lc1 : c < gx σ1 := hw1.lt (by rw [hc1]; decide)
    have lv1 : v' < gx σ1 := hw1.lt (by rw [B1.2.2.1]; decide)
    have ncx : c ≠ x0 := fun z => by rw [z, hx1] at hc1; exact absurd hc1 (by decide)
    have hx13 := fq1.1
    have nws5 : ¬ ws x0 b v x0 5 := fun z => by
      rcases z with (z | z) | z
      · exact nxb z
      · exact nxv z
      · have := z.2
        omega
    have r5 : gr σ1 x0 5 = gr σ x0 5 := (fq1.gr (by omega) nws5).trans (g3 x0 5)
    -- texts of constants
    have hN01 : ∀ a, nN x0 b v cm σ a → nN x0 b v' cm σ1 a := fun a z => ⟨by have := z.1; omega, z.2.1, z.2.2.1, by have := z.1; have := z.2.2.2.1; omega, z.2.2.2.2⟩
    have hL1 : xLi (nN x0 b v' cm σ1) σ1 := by
      have h1 : xLi (nN x0 b v cm σ) t3 := hLi.fr2 f3 hw (fun a j m z => m.2.1 z.1)
      have h2 : xLi (nN x0 b v cm σ) σ1 := h1.fr2 fq1 hw3 (fun a j m z => by
        rcases z with (z | z) | z
        · exact m.2.2.1 z
        · exact m.2.2.2.1 z
        · exact m.2.1 z.1)
      exact h2.mo hN01
    have Q1 : xQ (F, n, A, T) x0 c lo (nN x0 b v' cm σ1) hd fa σ1 := ⟨hw1, hP, hL1, h81⟩
    have hNx1 : ∀ a, nN x0 b v' cm σ1 a → a < gx σ1 := fun a z => z.1
    -- frames from σ, from σ1
    have toW : ∀ s, Fq (fun a j => wx x0 a j ∨ a = c) σ1 s → Fq (wr x0 b v) σ s := fun s q => (f3.trw fq1 (W3 := wr x0 b v) (fun a j _ z => Or.inr ⟨z.1, by have := z.2; omega⟩) (fun a j _ z => by
      rcases z with z | z
      · exact Or.inl z
      · exact Or.inr ⟨z.1, by have := z.2; omega⟩)).trw q (fun _ _ _ z => z) (fun a j ha z => by
      rcases z with z | z
      · exact Or.inr ⟨z.1, by have := z.2; omega⟩
      · omega)
    have bb : ∀ s, Fq (fun a j => wx x0 a j ∨ a = c) σ1 s → bS t' b v' s ∧ gn s v' = gn σ1 v' := fun s q => B1.fr q hw1 (fun j z => by
      rcases z with z | z
      · exact nxb z.1.symm
      · have := B1.1
        rw [z, hc1] at this
        exact absurd this (by decide)) (fun j z => by
      rcases z with z | z
      · have := B1.2.2.1
        rw [z.1, hx1] at this
        exact absurd this (by decide)
      · have := B1.2.2.1
        rw [z, hc1] at this
        exact absurd this (by decide))
    have r5s : ∀ s, Fq (fun a j => wx x0 a j ∨ a = c) σ1 s → gr s x0 5 = gr σ x0 5 := fun s q => (q.gr lx1 (fun z => by
      rcases z with z | z
      · have := z.2
        omega
      · exact ncx z.symm)).trans r5
    have hgs : 11 * n ≤ gs σ1 := by
      have : gn σ1 v' ≤ 5280 := by
        obtain ⟨-, -, -, -, -, -, -, z | ⟨-, ⟨q, z1, z2, z3⟩, -⟩⟩ := B1
        · have := z.2.2.1
          omega
        · omega
      omega
    -- a fault ends it
    have fault : ∀ (er : Nat × Nat) (s : GS) (x1 : Option Nat), Fq (fun a j => wx x0 a j ∨ a = c) σ1 s → xWr x0 er s → C + 1 ≤ gc s → gs σ1 - 11 * n ≤ gs s → xRd F n x0 b v cm C S (.error er) σ (x_read_63 fu s x0 x1) := fun er s x1 q hwr e1 e2 => by
      obtain ⟨y1, y2⟩ := bb s q
      exact x_read_end (q.wf hw1) (q.gk hw1 hx1 (by decide)) y1 (by omega) (toW s q) e1 (by rw [y2]; omega) er hwr (r5s s q)
    rw [a1, Option.bind_some, if_neg snn]
    show xRd F n x0 b v cm C S _ σ (ckT σ1 1 x0 (ckR (some c) fun a8 => (x_checkPool fu σ1 x0 a8).bind _))
    rw [ckT_ok hx1, ckR_ok, x_checkPool_ok hP hL1 g h81 hfu, eb_ok]
    -- the pool
    cases hcp : cpS (F, n, A, T) (ctP (F, n, A, T) - 1) 1 with
    | error er =>
      show xRd F n x0 b v cm C S (.error er) σ ((some ((0 : Int32), xwr σ1 x0 er.1 er.2)).bind _)
      rw [Option.bind_some, if_pos rfl]
      exact fault er _ _ (Fq.wr (fun _ _ z => Or.inl z)) xwr_ok (by rw [gc_xwr]; omega) (by rw [gs_xwr]; omega)
    | ok u0 =>
      have rg := RG_of g hcp
      show xRd F n x0 b v cm C S _ σ ((some ((1 : Int32), σ1)).bind _)
      rw [Option.bind_some, if_neg i10, eb_ok]
      show xRd F n x0 b v cm C S _ σ (ckT σ1 1 x0 ((x_checkHead fu σ1 x0 c).bind _))
      rw [ckT_ok hx1]
      -- the head
      have hH := x_checkHead_ok (C := C + 3 * n + 3) (S := gs σ1 - n) (fa := fa) g rg hfu (show hd + 8 + 2 * U2 F (hd + 6) ≤ n by omega) Q1 hNx1 (by omega) (by show gs σ1 - n + U2 F (hd + 6) ≤ gs σ1; omega)
      revert hH
      show xC x0 (wh x0 c) _ _ (headS (F, n, A, T) hd) _ σ1 _ → _
      cases headS (F, n, A, T) hd with
      | error er =>
        rintro ⟨σ2, b1, b2, b3, b4, b5⟩
        rw [b1, Option.bind_some, if_pos rfl]
        exact fault er σ2 _ (b3.mo (fun a j _ z => z.elim Or.inl (fun z => Or.inr z.1))) b2 (by omega) (by omega)
      | ok u1 =>
        rintro ⟨σ2, b1, ⟨b2, b3, b4, b5⟩, b6⟩
        rw [b1, Option.bind_some, if_neg i10, eb_ok]
        have G2 : Fq (fun a j => wx x0 a j ∨ a = c) σ1 σ2 := b6.mo (fun a j _ z => z.elim Or.inl (fun z => Or.inr z.1))
        have Q2 := Q1.fr b6 (fun a j _ z => z.k) b2
        have x12 := b6.1
        have hNx2 : ∀ a, nN x0 b v' cm σ1 a → a < gx σ2 := fun a z => by have := z.1; omega
        show xRd F n x0 b v cm C S _ σ (ckT σ2 1 x0 ((x_checkFields fu σ2 x0 c).bind _))
        rw [ckT_ok Q2.2.1.2.1.1]
        -- the fields
        have hFd := x_checkFields_ok (C := C + 2 * n + 2) (S := gs σ1 - 4 * n) (fin := ¬ (nI (U2 F hd) &&& (16 : Int32)) = 0) (q := ma) g hfu Q2 hNx2 b5.1 hmf (by show _ + n + 1 ≤ _; omega) (by show _ + 3 * n ≤ _; omega)
        revert hFd
        show xC x0 _ _ _ (fldS (F, n, A, T) (¬ (nI (U2 F hd) &&& (512 : Int32)) = 0) (¬ (nI (U2 F hd) &&& (16 : Int32)) = 0) fa) _ σ2 _ → _
        cases fldS (F, n, A, T) (¬ (nI (U2 F hd) &&& (512 : Int32)) = 0) (¬ (nI (U2 F hd) &&& (16 : Int32)) = 0) fa with
        | error er =>
          rintro ⟨σ3, d1, d2, d3, d4, d5⟩
          rw [d1, Option.bind_some, if_pos rfl]
          exact fault er σ3 _ (G2.tr (d3.mo (fun a j _ z => z.elim Or.inl (fun z => Or.inr z.1)))) d2 (by omega) (by omega)
        | ok Mf =>
          rintro ⟨σ3, d1, ⟨d2, d3, d4, d5, d6⟩, d7⟩
          rw [d1, Option.bind_some, if_neg i10, eb_ok]
          have G3 : Fq (fun a j => wx x0 a j ∨ a = c) σ1 σ3 := G2.tr (d7.mo (fun a j _ z => z.elim Or.inl (fun z => Or.inr z.1)))
          have Q3 := Q2.fr d7 (fun a j _ z => by
            rcases z with z | z
            · exact Or.inl z
            · exact Or.inr (Or.inl ⟨z.1, by have := z.2; omega⟩)) d2
          have x23 := d7.1
          have hNx3 : ∀ a, nN x0 b v' cm σ1 a → a < gx σ3 := fun a z => by have := z.1; omega
          have hH3 : xH (F, n, A, T) c hd σ3 := b5.fr d7 Q2.1 Q2.2.1.1.1.1 (fun j hj z => z.elim (fun z => ncx z.1) (fun z => by have := z.2; omega))
          show xRd F n x0 b v cm C S _ σ (ckT σ3 1 x0 ((x_checkMethods fu σ3 x0 c).bind _))
          rw [ckT_ok Q3.2.1.2.1.1]
          -- the methods
          have hMt := x_checkMethods_ok (C := C + n + 1) (S := gs σ1 - 9 * n) (fin := ¬ (nI (U2 F hd) &&& (16 : Int32)) = 0) (q := aa) g hfu Q3 hNx3 hH3.1 d3 hmm (by show _ + (n - ma) + 1 ≤ _; have : C + 2 * n + 2 + (n - ma) ≤ gc σ3 := d5; omega) (by show _ + 5 * (n - ma) ≤ _; have : gs σ1 - 4 * n + 2 * (n - ma) ≤ gs σ3 := d6; omega)
          revert hMt
          show xC x0 _ _ _ (mthS (F, n, A, T) (¬ (nI (U2 F hd) &&& (512 : Int32)) = 0) (¬ (nI (U2 F hd) &&& (16 : Int32)) = 0) ma) _ σ3 _ → _
          cases mthS (F, n, A, T) (¬ (nI (U2 F hd) &&& (512 : Int32)) = 0) (¬ (nI (U2 F hd) &&& (16 : Int32)) = 0) ma with
          | error er =>
            rintro ⟨σ4, e1, e2, e3, e4, e5⟩
            rw [e1, Option.bind_some, if_pos rfl]
            exact fault er σ4 _ (G3.tr (e3.mo (fun a j _ z => z.elim Or.inl (fun z => Or.inr z.1)))) e2 (by omega) (by omega)
          | ok Mm =>
            rintro ⟨σ4, e1, ⟨e2, e3, e4, e5, e6⟩, e7⟩
            rw [e1, Option.bind_some, if_neg i10, eb_ok]
            have G4 : Fq (fun a j => wx x0 a j ∨ a = c) σ1 σ4 := G3.tr (e7.mo (fun a j _ z => z.elim Or.inl (fun z => Or.inr z.1)))
            have Q4 := Q3.fr e7 (fun a j _ z => by
              rcases z with z | z
              · exact Or.inl z
              · exact Or.inr (Or.inl ⟨z.1, by have := z.2; omega⟩)) e2
            have x34 := e7.1
            have hNx4 : ∀ a, nN x0 b v' cm σ1 a → a < gx σ4 := fun a z => by have := z.1; omega
            have hH4 : xH (F, n, A, T) c hd σ4 := hH3.fr e7 Q3.1 Q3.2.1.1.1.1 (fun j hj z => z.elim (fun z => ncx z.1) (fun z => by have := z.2; omega))
            have hF4 : xFs (F, n, A, T) (nN x0 b v' cm σ1) c (U2 F fa) Mf σ4 := d4.fr e7 Q3.1 Q3.2.1.1.1.1 (fun z => z.elim (fun z => ncx z.1) (fun z => by have := z.2; omega)) (fun a j ha z => by
              rcases z with z | z
              · rw [z.1, Q3.2.1.2.1.1] at ha
                omega
              · rw [z.1, Q3.2.1.1.1.1] at ha
                omega) (fun a j m ha z => by
              rcases z with z | z
              · exact m.2.1 z.1
              · rw [z.1, Q3.2.1.1.1.1] at ha
                omega)
            have hNw4 : xNw c σ4 := ((hNw.fr b6 hw1 (fun j hj z => z.elim (fun z => ncx z.1) (fun z => by have := z.2; omega))).fr d7 Q2.1 (fun j hj z => z.elim (fun z => ncx z.1) (fun z => by have := z.2; omega))).fr e7 Q3.1 (fun j hj z => z.elim (fun z => ncx z.1) (fun z => by have := z.2; omega))
            have hI4 : xI3 F c (U2 F hd) (fun _ => 0) σ4 := by
              obtain ⟨-, w1, w2, ba, w3, w4, w5⟩ := hNw4
              refine ⟨⟨hH4.1, Nat.zero_le _, Nat.zero_le _⟩, ⟨w1 20 (by omega) (by omega) (by omega), w1 18 (by omega) (by omega) (by omega), w1 16 (by omega) (by omega) (by omega), w1 17 (by omega) (by omega) (by omega), w2, w1 14 (by omega) (by omega) (by omega), w1 15 (by omega) (by omega) (by omega)⟩, ?_⟩
              unfold xBoo
              rw [if_pos rfl]
              exact ⟨ba, w3, w4, w5⟩
            show xRd F n x0 b v cm C S _ σ (ckT σ4 1 x0 ((x_checkRest fu σ4 x0 c).bind _))
            rw [ckT_ok Q4.2.1.2.1.1]
            -- the rest
            have hRs := x_checkRest_ok (C := C + 1) (S := gs σ1 - 11 * n) (fin := ¬ (nI (U2 F hd) &&& (16 : Int32)) = 0) (q := n) g hfu Iff.rfl Q4 hNx4 hI4 e3 hma (by show _ + (n - aa) ≤ _; have : C + n + 1 + (n - aa) ≤ gc σ4 := e5; omega) (by show _ + 2 * (n - aa) ≤ _; have : gs σ1 - 9 * n + 4 * (n - aa) ≤ gs σ4 := e6; omega)
            revert hRs
            show xC x0 _ _ _ (rstS (F, n, A, T) (¬ (nI (U2 F hd) &&& (16 : Int32)) = 0) (U2 F hd) aa) _ σ4 _ → _
            cases rstS (F, n, A, T) (¬ (nI (U2 F hd) &&& (16 : Int32)) = 0) (U2 F hd) aa with
            | error er =>
              rintro ⟨σ5, y1, y2, y3, y4, y5⟩
              rw [y1, Option.bind_some, if_pos rfl]
              exact fault er σ5 _ (G4.tr (y3.mo (fun a j _ z => z.elim Or.inl (fun z => Or.inr z.1)))) y2 (by omega) (by omega)
            | ok a =>
              rintro ⟨σ5, y1, ⟨y2, y3, y4, y5⟩, y6⟩
              rw [y1, Option.bind_some, if_neg i10, eb_ok]
              have G5 : Fq (fun a j => wx x0 a j ∨ a = c) σ1 σ5 := G4.tr (y6.mo (fun a j _ z => z.elim Or.inl (fun z => Or.inr z.1)))
              have Q5 := Q4.fr y6 (fun a j _ z => z.k) y2
              have x45 := y6.1
              have nk : ∀ {b' j : Nat}, w3C x0 c b' j → gk σ4 b' = 1 ∨ gk σ4 b' = 2 := fun {b' j} z => by
                rcases z with z | z
                · rw [z.1]
                  exact Or.inl Q4.2.1.2.1.1
                · rw [z.1]
                  exact Or.inr Q4.2.1.1.1.1
              have hN4 : ∀ b' j, nN x0 b v' cm σ1 b' → gk σ4 b' = 6 ∨ gk σ4 b' = 101 → ¬ w3C x0 c b' j := fun b' j _ hk z => by have := nk z; omega
              have hK5 : xKp xT0 F n ((A, T, hd, fa, ma, aa), Mf, Mm, a) c lo (gx σ3) (nN x0 b v' cm σ1) σ5 := by
                refine ⟨Q5.2.1.1, hH4.fr y6 Q4.1 Q4.2.1.1.1.1 (fun j hj z => z.elim (fun z => ncx z.1) (fun z => by have := z.2; omega)), hF4.fr y6 Q4.1 Q4.2.1.1.1.1 (fun z => z.elim (fun z => ncx z.1) (fun z => by have := z.2; omega)) (fun b' j hk z => by have := nk z; omega) hN4, e4.fr y6 Q4.1 Q4.2.1.1.1.1 (fun z => z.elim (fun z => ncx z.1) (fun z => by have := z.2; omega)) (fun b' j hk _ z => by have := nk z; omega) (fun b' j hk z => by have := nk z; omega) hN4 (fun m r hm _ h14 => ?_), y3⟩
                exact (y6.gi (Q4.1.lt (by rw [hm]; decide)) (fun z => by have := nk z; omega)).trans h14
              -- the end
              unfold x_read_64 x_read_81
              have hx5 := Q5.2.1.2.1.1
              have lx5 : x0 < gx σ5 := Q5.1.lt (by rw [hx5]; decide)
              have gn5 := (bb σ5 G5).2
              rw [nA_step0 (by omega) hx5 (by omega), if_neg i10, nx_eq]
              have f6 : Fq (fun a j => a = x0 ∧ (j = 2 ∨ j = 5)) σ5 (gpr (nA σ5 101 0 x0 2) x0 5 (some c)) := (fq_nA ⟨rfl, by omega⟩).tr (Fq.pr ⟨rfl, by omega⟩)
              have G6 := toW σ5 G5
              have hB5 := (bb σ5 G5).1
              obtain ⟨B6, n6⟩ := hB5.fr f6 Q5.1 (fun j z => nxb z.1.symm) (fun j z => by have := hB5.2.2.1; rw [z.1, hx5] at this; exact absurd this (by decide))
              have k6 : gk (gpr (nA σ5 101 0 x0 2) x0 5 (some c)) x0 = 1 := f6.gk Q5.1 hx5 (by decide)
              have i63 : gi (gpr (nA σ5 101 0 x0 2) x0 5 (some c)) x0 3 = gi σ5 x0 3 := f6.gi lx5 (fun z => by have := z.2; omega)
              have i64 : gi (gpr (nA σ5 101 0 x0 2) x0 5 (some c)) x0 4 = gi σ5 x0 4 := f6.gi lx5 (fun z => by have := z.2; omega)
              rw [ckT_ok k6]
              have lv5 : v' < gx σ1 := hw1.lt (by rw [B1.2.2.1]; decide)
              have e01 := fq1.1
              have e15 := G5.1
              have e13 : gx σ1 ≤ gx σ3 := G3.1
              refine ⟨gpr (nA σ5 101 0 x0 2) x0 5 (some c), v', t', gx σ5, ⟨B6, by omega, G6.trw f6 (fun _ _ _ z => z) (fun a j _ z => Or.inr ⟨z.1, by have := z.2; omega⟩), by rw [gc_gpr, gc_nA]; omega, by rw [gs_gpr, gs_nA, n6, gn5]; omega⟩, ⟨by rw [gr_gpr, if_neg (fun z => by have := z.2; omega), gr_nA, if_pos ⟨rfl, rfl⟩], by rw [gk_gpr, gk_nA, if_pos rfl], by rw [gn_gpr, gn_nA, if_pos rfl], by omega, by omega⟩, by rw [i63, y2.2.1], by rw [i64, y2.2.2], c, lo, gx σ3, by rw [gr_gpr, if_pos ⟨rfl, rfl⟩], ⟨by omega, by omega⟩, fileS_FO hn hE, ?_⟩
              refine (hK5.fr f6 Q5.1 (fun a j m z => m.2.1 z.1) (fun a j hk z => by rw [z.1, hx5] at hk; omega) (fun a j hk _ z => by rw [z.1, hx5] at hk; omega) (fun m r hm _ h14 => ?_)).mo (fun a m => ⟨by have := m.1; have := f6.1; omega, m.2⟩)
              exact (f6.gi (Q5.1.lt (by rw [hm]; decide)) (fun z => by rw [z.1, hx5] at hm; exact absurd hm (by decide))).trans h14
end XRead2
