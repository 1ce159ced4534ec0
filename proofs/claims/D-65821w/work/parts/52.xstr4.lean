/-! the component's structure, whole -/
section XStr4
set_option maxRecDepth 100000
theorem nA_step0 {β : Type} {s : GS} {K c j kc : Nat} {k : GS → Option β} (h2 : 1 ≤ gc s) (h3 : gk s c = kc) (h4 : c ≠ gx s) : ckL (0 : Int32) (ckC s (0 : Int32).toNatClampNeg (nx (gx s) fun a => nx (gnew s K (0 : Int32).toNatClampNeg (0 : Int32).toNatClampNeg) fun s' => ckT s' kc c (nx (gpr s' c j (some a)) fun s2 => k s2))) = k (nA s K 0 c j) :=
  nA_step (sz := 0) (by omega) ⟨h2, Nat.zero_le _⟩ h3 h4
/-- a class that is new -/
def xNw (c : Nat) (σ : GS) : Prop := gk σ c = 2 ∧ (∀ j, 14 ≤ j → j ≤ 20 → j ≠ 19 → gi σ c j = 0) ∧ gi σ c 19 = -1 ∧ ∃ a, gr σ c 21 = some a ∧ gk σ a = 108 ∧ gn σ a = 0
theorem xNw.fr {c : Nat} {σ σ' : GS} {W : Nat → Nat → Prop} (h : xNw c σ) (f : Fq W σ σ') (hw : WF σ) (hW : ∀ j, 14 ≤ j → ¬ W c j) : xNw c σ' := by
  obtain ⟨h1, h2, h3, a, h4, h5, h6⟩ := h
  have lc : c < gx σ := hw.lt (by rw [h1]; decide)
  have la : a < gx σ := hw.lt (by rw [h5]; decide)
  exact ⟨f.gk hw h1 (by decide), fun j j1 j2 j3 => (f.gi lc (hW j j1)).trans (h2 j j1 j2 j3), (f.gi lc (hW 19 (by omega))).trans h3, a, (f.gr lc (hW 21 (by omega))).trans h4, f.gk hw h5 (by decide), (f.gn la).trans h6⟩
def ws (x0 b v a j : Nat) : Prop := (a = b ∨ a = v) ∨ (a = x0 ∧ (j = 3 ∨ j = 4 ∨ j = 6 ∨ j = 7 ∨ j = 8 ∨ j = 9 ∨ j = 10))
def xSR (F : Nat → Int32) (n x0 b v cm C S : Nat) (E : FE FR) (σ : GS) (o : Option (Option Nat × GS)) : Prop := match E with
  | .error er => ∃ σ' v' t', o = some (none, σ') ∧ xWr x0 er σ' ∧ bS t' b v' σ' ∧ (v' = v ∨ gx σ ≤ v') ∧ Fq (ws x0 b v) σ σ' ∧ C ≤ gc σ' ∧ S ≤ gs σ' + 2 * gn σ' v'
  | .ok r => ∃ σ' v' t' c lo, o = some (some c, σ') ∧ (gx σ ≤ c ∧ Z8 x0 σ' ∧ xNw c σ' ∧ xP (F, n, r.1, r.2.1) x0 c lo (nN x0 b v' cm σ') r.2.2.1 r.2.2.2.1 σ') ∧ bS t' b v' σ' ∧ (v' = v ∨ gx σ ≤ v') ∧ Fq (ws x0 b v) σ σ' ∧ C ≤ gc σ' ∧ S ≤ gs σ' + 2 * gn σ' v'
theorem xSR_of {F : Nat → Int32} {n x0 c b v cm C S : Nat} {E : FE FR} {σ σ1 : GS} {o : Option (Option Nat × GS)} (h : xS5 F n x0 c b v cm C S E σ1 o) (hw1 : WF σ1) (hc : gx σ ≤ c) (hN : xNw c σ1) (hcb : c ≠ b ∧ c ≠ v ∧ c ≠ x0) (f : Fq (ws x0 b v) σ σ1) : xSR F n x0 b v cm C S E σ o := by
  have h1 := f.1
  have tr : ∀ σ', Fq (w5 x0 c b v) σ1 σ' → Fq (ws x0 b v) σ σ' := fun σ' q => f.trw q (fun _ _ _ z => z) (fun a j ha z => by
    rcases z with z | z | z
    · exact Or.inl z
    · exact Or.inr z
    · omega)
  cases E with
  | error er =>
    obtain ⟨σ', v', t', a1, a2, a3, a4, a5, a6⟩ := h
    exact ⟨σ', v', t', a1, a2, a3, by omega, tr σ' a5, a6⟩
  | ok r =>
    obtain ⟨σ', v', t', lo, a1, a2, a3, a4, a5, a6⟩ := h
    refine ⟨σ', v', t', c, lo, a1, ⟨hc, a2.1, hN.fr a5 hw1 (fun j hj z => ?_), a2.2⟩, a3, by omega, tr σ' a5, a6⟩
    rcases z with (z | z) | z | z
    · exact hcb.1 z
    · exact hcb.2.1 z
    · exact hcb.2.2 z.1
    · omega
theorem x_structure_ok {F : Nat → Int32} {n x0 b v cm C S fu : Nat} {u : List Nat} {σ : GS} (hn : n ≤ 1300) (hfu : 65536 < fu) (hS : 40000 ≤ S) (hw : WF σ) (hF : xF F n x0 σ) (h34 : gi σ x0 3 = 0 ∧ gi σ x0 4 = -1) (hb : gr σ x0 11 = some b) (hB : bS u b v σ) (hfv : ∀ q, gr σ x0 2 = some q → q ≠ v ∧ q ≠ cm) (kcm : gk σ cm = 101) (hC : C + 2 * n + 14 ≤ gc σ) (hS2 : S + 38 + 5 * n ≤ gs σ + 2 * gn σ v) :
    xSR F n x0 b v cm C S (fileS F n) σ (x_structure fu σ x0) := by
  have hx := hF.1
  have lx : x0 < gx σ := hw.lt (by rw [hx]; decide)
  have lv : v < gx σ := hw.lt (by rw [hB.2.2.1]; decide)
  have lb : b < gx σ := hw.lt (by rw [hB.1]; decide)
  have hv : gn σ v ≤ 5280 := by
    obtain ⟨-, -, -, -, -, -, -, z | ⟨-, ⟨q, z1, z2, z3⟩, -⟩⟩ := hB
    · have := z.2.2.1
      omega
    · omega
  rw [fileS_eq]
  unfold x_structure x_structure_0 x_X3_init x_X3_init_0
  rw [ckT_ok hx, nx_eq, nx_eq]
  generalize hs3 : gpi (gpi σ x0 6 0) x0 8 0 = s3
  have x3 : gx s3 = gx σ := by rw [← hs3, gx_gpi, gx_gpi]
  have c3 : gc s3 = gc σ := by rw [← hs3, gc_gpi, gc_gpi]
  have e3 : gs s3 = gs σ := by rw [← hs3, gs_gpi, gs_gpi]
  have f3 : Fq (fun a j => a = x0 ∧ (j = 6 ∨ j = 8)) σ s3 := by rw [← hs3]; exact (Fq.pi ⟨rfl, by omega⟩).tr (Fq.pi ⟨rfl, by omega⟩)
  have p6 : gi s3 x0 6 = 0 := by rw [← hs3, gi_gpi_ne (Or.inr (by decide)), gi_gpi_eq]
  have p8 : Z8 x0 s3 := by rw [← hs3]; exact ⟨gi_gpi_eq, (gi_gpi_ne (Or.inr (by decide))).trans ((gi_gpi_ne (Or.inr (by decide))).trans h34.1), (gi_gpi_ne (Or.inr (by decide))).trans ((gi_gpi_ne (Or.inr (by decide))).trans h34.2)⟩
  rw [ckC_ok ⟨by omega, by omega⟩, nx_eq, nx_eq, x3]
  generalize hs6 : gnew s3 2 0 22 = s6
  have x6 : gx s6 = gx σ + 1 := by rw [← hs6, gx_gnew, x3]
  have c6 : gc s6 = gc σ - 1 := by rw [← hs6, gc_gnew, c3]
  have e6 : gs s6 = gs σ - 22 := by rw [← hs6, gs_gnew, e3]
  have k6 : gk s6 (gx σ) = 2 := by rw [← hs6, gk_gnew, x3, if_pos rfl]
  have i6 : ∀ j, gi s6 (gx σ) j = 0 := fun j => by rw [← hs6, gi_gnew, x3, if_pos rfl]
  have f6 : Fq (fun a j => a = x0 ∧ (j = 6 ∨ j = 8)) s3 s6 := by rw [← hs6]; exact Fq.new
  rw [nA_step0 (by omega) k6 (by omega)]
  generalize hs7 : nA s6 100 0 (gx σ) 5 = s7
  have x7 : gx s7 = gx σ + 2 := by rw [← hs7, gx_nA, x6]
  have c7 : gc s7 = gc σ - 2 := by rw [← hs7, gc_nA]; omega
  have e7 : gs s7 = gs σ - 22 := by rw [← hs7, gs_nA]; omega
  have k7 : gk s7 (gx σ) = 2 := by rw [← hs7, gk_nA, if_neg (by omega), k6]
  have i7 : ∀ j, gi s7 (gx σ) j = 0 := fun j => by rw [← hs7, gi_nA, if_neg (by omega), i6]
  have f7 : Fq (fun a (_ : Nat) => a = gx σ) s6 s7 := by rw [← hs7]; exact fq_nA rfl
  rw [nA_step0 (by omega) k7 (by omega)]
  generalize hs8 : nA s7 106 0 (gx σ) 12 = s8
  have x8 : gx s8 = gx σ + 3 := by rw [← hs8, gx_nA, x7]
  have c8 : gc s8 = gc σ - 3 := by rw [← hs8, gc_nA]; omega
  have e8 : gs s8 = gs σ - 22 := by rw [← hs8, gs_nA]; omega
  have k8 : gk s8 (gx σ) = 2 := by rw [← hs8, gk_nA, if_neg (by omega), k7]
  have i8 : ∀ j, gi s8 (gx σ) j = 0 := fun j => by rw [← hs8, gi_nA, if_neg (by omega), i7]
  have f8 : Fq (fun a (_ : Nat) => a = gx σ) s7 s8 := by rw [← hs8]; exact fq_nA rfl
  rw [nA_step0 (by omega) k8 (by omega)]
  generalize hs9 : nA s8 107 0 (gx σ) 13 = s9
  have x9 : gx s9 = gx σ + 4 := by rw [← hs9, gx_nA, x8]
  have c9 : gc s9 = gc σ - 4 := by rw [← hs9, gc_nA]; omega
  have e9 : gs s9 = gs σ - 22 := by rw [← hs9, gs_nA]; omega
  have k9 : gk s9 (gx σ) = 2 := by rw [← hs9, gk_nA, if_neg (by omega), k8]
  have i9 : ∀ j, gi s9 (gx σ) j = 0 := fun j => by rw [← hs9, gi_nA, if_neg (by omega), i8]
  have f9 : Fq (fun a (_ : Nat) => a = gx σ) s8 s9 := by rw [← hs9]; exact fq_nA rfl
  rw [nx_eq]
  generalize ht1 : gpi s9 (gx σ) 19 (-1) = t1
  have y1 : gx t1 = gx σ + 4 := by rw [← ht1, gx_gpi, x9]
  have d1 : gc t1 = gc σ - 4 := by rw [← ht1, gc_gpi, c9]
  have g1 : gs t1 = gs σ - 22 := by rw [← ht1, gs_gpi, e9]
  have l1 : gk t1 (gx σ) = 2 := by rw [← ht1, gk_gpi, k9]
  have j1 : ∀ j, j ≠ 19 → gi t1 (gx σ) j = 0 := fun j hj => by rw [← ht1, gi_gpi_ne (Or.inr hj), i9]
  have n1 : gi t1 (gx σ) 19 = -1 := by rw [← ht1, gi_gpi_eq]
  have f10 : Fq (fun a (_ : Nat) => a = gx σ) s9 t1 := by rw [← ht1]; exact Fq.pi rfl
  rw [nA_step0 (by omega) l1 (by omega)]
  generalize ht2 : nA t1 108 0 (gx σ) 21 = t2
  have y2 : gx t2 = gx σ + 5 := by rw [← ht2, gx_nA, y1]
  have d2 : gc t2 = gc σ - 5 := by rw [← ht2, gc_nA]; omega
  have g2 : gs t2 = gs σ - 22 := by rw [← ht2, gs_nA]; omega
  have l2 : gk t2 (gx σ) = 2 := by rw [← ht2, gk_nA, if_neg (by omega), l1]
  have j2 : ∀ j, j ≠ 19 → gi t2 (gx σ) j = 0 := fun j hj => by rw [← ht2, gi_nA, if_neg (by omega), j1 j hj]
  have n2 : gi t2 (gx σ) 19 = -1 := by rw [← ht2, gi_nA, if_neg (by omega), n1]
  have r2 : gr t2 (gx σ) 21 = some (gx σ + 4) := by rw [← ht2, gr_nA, if_pos ⟨rfl, rfl⟩, y1]
  have a2 : gk t2 (gx σ + 4) = 108 ∧ gn t2 (gx σ + 4) = 0 := by rw [← ht2, gk_nA, gn_nA, if_pos (by omega), if_pos (by omega)]; exact ⟨rfl, rfl⟩
  have f11 : Fq (fun a (_ : Nat) => a = gx σ) t1 t2 := by rw [← ht2]; exact fq_nA rfl
  have Q0 : Fq (fun a j => a = x0 ∧ (j = 6 ∨ j = 8)) σ s6 := f3.tr f6
  have Q1 : Fq (fun a (_ : Nat) => a = gx σ) s6 t2 := f7.tr (f8.tr (f9.tr (f10.tr f11)))
  have Q : Fq (fun a j => a = x0 ∧ (j = 6 ∨ j = 8)) σ t2 := Q0.trw Q1 (fun _ _ _ z => z) (fun a j ha z => by have z : a = gx σ := z; omega)
  have hw6 : WF s6 := Q0.wf hw
  have lx6 : x0 < gx s6 := by omega
  have q6 : gi t2 x0 6 = nI 0 := by
    rw [Q1.gi lx6 (fun z => by have z : x0 = gx σ := z; omega), ← hs6, gi_gnew, if_neg (by omega), p6]
    rfl
  have q8 : Z8 x0 t2 := Z8.fq Q1 lx6 (fun j _ z => by have z : x0 = gx σ := z; omega) (by rw [← hs6]; exact Z8.new (by omega) p8)
  clear hs3 hs6 hs7 hs8 hs9 ht1 ht2 f3 f6 f7 f8 f9 f10 f11
  have hwt : WF t2 := Q.wf hw
  have F2 : xF F n x0 t2 := hF.fr Q hw (fun z => by omega) (fun g hg j z => by
    obtain ⟨k1, f2, k2, k3, -⟩ := hF
    rw [k2] at hg
    have e := Option.some.inj hg
    subst e
    rw [z.1, k1] at k3
    exact absurd k3 (by decide))
  obtain ⟨B2, nv2⟩ := hB.fr Q hw (fun j z => by have := hB.1; rw [z.1, hx] at this; exact absurd this (by decide)) (fun j z => by have := hB.2.2.1; rw [z.1, hx] at this; exact absurd this (by decide))
  have BB : xB F n x0 (gx σ) b v cm C S 0 u t2 := ⟨⟨hwt, ⟨F2, q6, q8⟩, l2, (Q.gr lx (fun z => by omega)).trans hb, B2, by omega⟩, ⟨fun g hg => hfv g ((Q.gr lx (fun z => by omega)).symm.trans hg), Q.gk hw kcm (by decide)⟩, by omega, by rw [nv2]; omega⟩
  have NW : xNw (gx σ) t2 := ⟨l2, fun j z1 z2 z3 => j2 j z3, n2, gx σ + 4, r2, a2.1, a2.2⟩
  have hQs : Fq (ws x0 b v) σ t2 := Q.mo (fun a j _ z => Or.inr ⟨z.1, by have := z.2; omega⟩)
  refine xSR_of (c := gx σ) (σ1 := t2) ?_ hwt (Nat.le_refl _) NW ⟨by omega, by omega, by omega⟩ hQs
  clear Q0 Q1 Q hQs NW
  have hx2 := F2.1
  rw [Option.bind_some, ckT_ok hx2, x_next4_ok BB.1.2.1 (by omega) (by omega)]
  have h4 := U4_lt F 0
  by_cases z : n < 0 + 4
  · rw [if_pos z, Option.bind_some, show itS n 0 4 = .error (1, 0) from if_pos z]
    show xS5 F n x0 (gx σ) b v cm C S _ t2 (ckT (xwr t2 x0 1 0) 1 x0 (if gi (xwr t2 x0 1 0) x0 8 = 0 then _ else some (none, xwr t2 x0 1 0)))
    rw [ckT_ok (gk_xwr.trans hx2), xwr8, if_neg i10]
    exact BB.err (Fq.wr (fun _ _ z => Or.inl z)) xwr_ok gc_xwr gs_xwr
  rw [if_neg z, Option.bind_some, show itS n 0 4 = .ok () from if_neg z, eb_ok]
  have B4 := BB.to (q := 0 + 4)
  show xS5 F n x0 (gx σ) b v cm C S _ t2 (ckT (gpi t2 x0 6 (nI (0 + 4))) 1 x0 (if gi (gpi t2 x0 6 (nI (0 + 4))) x0 8 = 0 then (if lg_cmp (lN (U4 F 0)) (3405691582 : Int64) = 0 then x_structure_49 fu (gpi t2 x0 6 (nI (0 + 4))) x0 (gx σ) else (x_wrong (gpi t2 x0 6 (nI (0 + 4))) x0 (2 : Int32) (0 : Int32)).bind fun r16 => if r16.1 = 0 then some (none, r16.2) else x_structure_49 fu r16.2 x0 (gx σ)) else some (none, gpi t2 x0 6 (nI (0 + 4)))))
  refine xS5.fr (σ1 := gpi t2 x0 6 (nI (0 + 4))) (Fq.pi (Or.inr (Or.inl ⟨rfl, by omega⟩))) ?_
  generalize gpi t2 x0 6 (nI (0 + 4)) = s at *
  have hxs := B4.1.2.1.1.1
  rw [ckT_ok hxs, if_pos B4.1.2.1.2.2.1, show (3405691582 : Int64) = lN 3405691582 from rfl]
  by_cases h : U4 F 0 = 3405691582
  · rw [if_pos ((cmp_eq (by omega) (by omega)).mpr h), if_neg (fun w => w h)]
    exact x_s49 hn (by omega) hfu hS B4
  · rw [if_neg (fun w => h ((cmp_eq (by omega) (by omega)).mp w)), if_pos h, show (2 : Int32) = nI 2 from rfl, show (0 : Int32) = nI 0 from rfl, x_wrong_ok hxs B4.1.2.1.2.2, Option.bind_some, if_pos (show (0 : Int32) = nI 0 from rfl)]
    exact B4.err (Fq.wr (fun _ _ z => Or.inl z)) xwr_ok gc_xwr gs_xwr
end XStr4
