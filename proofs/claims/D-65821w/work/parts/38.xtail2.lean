/-! the component: the file's structure behind the pool -/
section XTail2
set_option maxRecDepth 100000
theorem i10 : ¬ (1 : Int32) = 0 := by decide
def xno (σ : GS) : Option Nat × GS := (none, σ)
def xso (c : Nat) (σ : GS) : Option Nat × GS := (some c, σ)
theorem x_flag {fu x0 x1 : Nat} {σ : GS} (h8 : gi σ x0 8 = 1) (h1 : gk σ x0 = 1) : x_structure_366 fu σ x0 x1 = some (xno σ) := by
  unfold x_structure_366 x_structure_377 x_structure_407
  rw [ckT_ok h1, ckT_ok h1, ckT_ok h1, h8, if_neg i10, if_neg i10, if_neg i10]
  rfl
theorem x_flag278 {fu x0 x1 f : Nat} {σ : GS} {x : Int32} (h8 : gi σ x0 8 = 1) (h1 : gk σ x0 = 1) (hf : 0 < f) : x_structure_278L fu f σ x0 x1 x = some (xno σ) := by
  obtain ⟨f, rfl⟩ : ∃ z9, f = z9 + 1 := ⟨f - 1, by omega⟩
  show x_structure_278 fu (x_structure_278L fu f) σ x0 x1 x = _
  unfold x_structure_278
  rw [ckT_ok h1, h8, if_neg i10, x_flag h8 h1]
  split <;> rfl
abbrev LT : List Nat := [3, 4, 6, 8, 10]
theorem xT4.ap {α β : Type} {x0 : Nat} {L : List Nat} {E : FE α} {f : α → FE β} {γ : Type} {Q1 : α → GS → Prop} {Q : β → GS → Prop} {fe fo : GS → γ} {σ : GS} {o : Option GS} {G : GS → Option γ} (h : xT4 x0 [3, 4, 6, 8] E Q1 id id σ o) (hL : ∀ k, k ∈ [3, 4, 6, 8] → k ∈ L) (ke : ∀ σ1, gi σ1 x0 8 = 1 → gk σ1 = gk σ → G σ1 = some (fe σ1)) (k : ∀ a σ1, E = .ok a → Q1 a σ1 → sm x0 [3, 4, 6, 8] σ σ1 → xT4 x0 L (f a) Q fe fo σ1 (G σ1)) : xT4 x0 L (eb E f) Q fe fo σ (o.bind G) := by
  cases E with
  | error e =>
    obtain ⟨s, k1, k2, k3⟩ := h
    refine ⟨s, ?_, k2, k3.mo hL⟩
    rw [k1]
    exact ke s k2.1 k3.1
  | ok a =>
    obtain ⟨s, k1, k2, k3⟩ := h
    rw [k1]
    exact (k a s rfl k2 k3).fr (k3.mo hL)
theorem x_memb_loop {F : Nat → Int32} {n x0 x1 fu : Nat} {α : Type} {K : Nat → FE α} {Q : α → GS → Prop} {x5 : Int32} {k278 : GS → Nat → Nat → Int32 → Option (Option Nat × GS)} (hn : n ≤ 20000) (hfu : 65536 < fu)
    (hke : ∀ σ1, gi σ1 x0 8 = 1 → gk σ1 x0 = 1 → k278 σ1 x0 x1 (x5 + 1) = some (xno σ1)) : ∀ (k f p i : Nat) (σ : GS), k < f → i + k < 2 ^ 31 → p ≤ n → xA F n x0 p σ →
    (∀ q σ1, skM F n k p = .ok q → q ≤ n → xA F n x0 q σ1 → sm x0 [3, 4, 6, 8] σ σ1 → xT4 x0 LT (K q) Q xno (xso x1) σ1 (k278 σ1 x0 x1 (x5 + 1))) →
    xT4 x0 LT (eb (skM F n k p) K) Q xno (xso x1) σ (x_structure_300L fu k278 f σ x0 x1 x5 (nI (i + k)) (nI i)) := by
  intro k
  induction k with
  | zero =>
    intro f p i σ hf hi hp hA kk
    obtain ⟨f, rfl⟩ : ∃ z9, f = z9 + 1 := ⟨f - 1, by omega⟩
    show xT4 _ _ _ _ _ _ σ (x_structure_300 fu k278 (x_structure_300L fu k278 f) σ x0 x1 x5 (nI (i + 0)) (nI i))
    unfold x_structure_300 x_structure_360
    rw [if_pos (nI_le (by omega) (by omega)), nx_eq]
    exact kk p σ rfl hp hA sm.rf
  | succ k ih =>
    intro f p i σ hf hi hp hA kk
    obtain ⟨f, rfl⟩ : ∃ z9, f = z9 + 1 := ⟨f - 1, by omega⟩
    show xT4 _ _ _ _ _ _ σ (x_structure_300 fu k278 (x_structure_300L fu k278 f) σ x0 x1 x5 (nI (i + (k + 1))) (nI i))
    have out : ∀ σ1 : GS, gi σ1 x0 8 = 1 → gk σ1 x0 = 1 → x_structure_354 fu (x_structure_300L fu k278 f) σ1 x0 x1 x5 (nI (i + (k + 1))) (nI i) = some (xno σ1) := by
      intro σ1 g8 g1
      unfold x_structure_354
      rw [nx_eq, nI_1]
      obtain ⟨f, rfl⟩ : ∃ z9, f = z9 + 1 := ⟨f - 1, by omega⟩
      show x_structure_300 fu k278 (x_structure_300L fu k278 f) σ1 x0 x1 x5 (nI (i + (k + 1))) (nI (i + 1)) = _
      unfold x_structure_300 x_structure_360
      rw [ckT_ok g1, g8, if_neg i10, nx_eq, hke σ1 g8 g1]
      split <;> rfl
    have out343 : ∀ σ1 : GS, gi σ1 x0 8 = 1 → gk σ1 x0 = 1 → x_structure_343 fu (x_structure_300L fu k278 f) σ1 x0 x1 x5 (nI (i + (k + 1))) (nI i) = some (xno σ1) := by
      intro σ1 g8 g1
      unfold x_structure_343
      rw [ckT_ok g1, g8, if_neg i10]
      exact out σ1 g8 g1
    have out331 : ∀ σ1 : GS, gi σ1 x0 8 = 1 → gk σ1 x0 = 1 → x_structure_331 fu (x_structure_300L fu k278 f) σ1 x0 x1 x5 (nI (i + (k + 1))) (nI i) = some (xno σ1) := by
      intro σ1 g8 g1
      unfold x_structure_331
      rw [ckT_ok g1, g8, if_neg i10]
      exact out343 σ1 g8 g1
    have a1 := hA.1.1
    unfold x_structure_300
    rw [if_neg (nI_ge (by omega) (by omega)), ckT_ok a1, if_pos hA.2.2.1, x_next2_ok hA hn hp]
    unfold skM
    rw [eb_eb]
    by_cases z1 : n < p + 2
    · rw [if_pos z1, Option.bind_some, show itS n p 2 = .error (1, p) from if_pos z1]
      refine xT4.er (by decide) (by decide) (by decide) ?_
      show (ckT (xwr σ x0 1 p) 1 x0 _) = _
      rw [ckT_ok (show gk (xwr σ x0 1 p) x0 = 1 from a1), show gi (xwr σ x0 1 p) x0 8 = 1 from xwr8, if_neg i10, out331 _ (by exact xwr8) (by exact a1)]
    rw [if_neg z1, Option.bind_some, show itS n p 2 = .ok () from if_neg z1, eb_ok, eb_eb]
    refine xT4.fr (sm.put (k := 6) (v := nI (p + 2)) (by decide)) ?_
    have hA1 : xA F n x0 (p + 2) (gpi σ x0 6 (nI (p + 2))) := hA.to
    show xT4 _ _ _ _ _ _ _ (ckT (gpi σ x0 6 (nI (p + 2))) 1 x0 _)
    rw [ckT_ok (show gk (gpi σ x0 6 (nI (p + 2))) x0 = 1 from a1), if_pos hA1.2.2.1, x_next2_ok hA1 hn (by omega)]
    by_cases z2 : n < p + 2 + 2
    · rw [if_pos z2, Option.bind_some, show itS n (p + 2) 2 = .error (1, p + 2) from if_pos z2, out331 _ (by exact xwr8) (by exact a1)]
      exact xT4.er (by decide) (by decide) (by decide) rfl
    rw [if_neg z2, Option.bind_some, show itS n (p + 2) 2 = .ok () from if_neg z2, eb_ok, eb_eb]
    refine xT4.fr (sm.put (k := 6) (v := nI (p + 2 + 2)) (by decide)) ?_
    generalize hs2 : gpi (gpi σ x0 6 (nI (p + 2))) x0 6 (nI (p + 2 + 2)) = σ2
    have hA2 : xA F n x0 (p + 4) σ2 := by rw [← hs2]; exact hA1.to
    have s2 : sm x0 [3, 4, 6, 8] σ σ2 := by rw [← hs2]; exact (sm.put (by decide)).tr (sm.put (by decide))
    unfold x_structure_331
    show xT4 _ _ _ _ _ _ _ (ckT σ2 1 x0 _)
    rw [ckT_ok hA2.1.1, if_pos hA2.2.2.1]
    show xT4 _ _ _ _ _ _ _ ((x_next2 σ2 x0).bind _)
    rw [x_next2_ok hA2 hn (by omega)]
    by_cases z3 : n < p + 4 + 2
    · rw [if_pos z3, Option.bind_some, show itS n (p + 4) 2 = .error (1, p + 4) from if_pos z3, out343 _ (by exact xwr8) (by exact hA2.1.1)]
      exact xT4.er (by decide) (by decide) (by decide) rfl
    rw [if_neg z3, Option.bind_some, show itS n (p + 4) 2 = .ok () from if_neg z3, eb_ok, eb_eb]
    refine xT4.fr (sm.put (k := 6) (v := nI (p + 4 + 2)) (by decide)) ?_
    generalize hs3 : gpi σ2 x0 6 (nI (p + 4 + 2)) = σ3
    have hA3 : xA F n x0 (p + 6) σ3 := by rw [← hs3]; exact hA2.to
    have s3 : sm x0 [3, 4, 6, 8] σ σ3 := by rw [← hs3]; exact s2.tr (sm.put (by decide))
    unfold x_structure_343
    show xT4 _ _ _ _ _ _ _ (ckT σ3 1 x0 _)
    rw [ckT_ok hA3.1.1, if_pos hA3.2.2.1]
    refine (x_pass_ok (p := p + 6) hn hfu (by omega) hA3).ap (by decide) (fun σ4 g8 g4 => out σ4 g8 (by rw [g4]; exact hA3.1.1)) ?_
    rintro q σ4 e4 ⟨hA4, hq⟩ s4
    unfold x_structure_354
    rw [nx_eq, nI_1]
    have := ih f q (i + 1) σ4 (by omega) (by omega) hq hA4 (fun q2 σ5 e5 hq2 hA5 s5 => kk q2 σ5 (by
      unfold skM
      rw [show itS n p 2 = .ok () from if_neg z1, eb_ok, show itS n (p + 2) 2 = .ok () from if_neg z2, eb_ok, show itS n (p + 4) 2 = .ok () from if_neg z3, eb_ok, e4]
      exact e5) hq2 hA5 (s3.tr (s4.tr s5)))
    rw [show i + 1 + k = i + (k + 1) by omega] at this
    exact this
def tailS (F : Nat → Int32) (n p : Nat) : FE (Nat × Nat) := eb (membS F n p) fun q2 => eb (membS F n q2) fun q3 => eb (attrS F n q3) fun q4 => if q4 = n then .ok (q2, q3) else .error (8, q4)
/-- behind the interfaces -/
theorem x_tail_ok {F : Nat → Int32} {n x0 x1 fu p : Nat} {σ : GS} (hn : n ≤ 20000) (hfu : 65536 < fu) (hp : p ≤ n) (hA : xA F n x0 p σ) : xT4 x0 LT (tailS F n p) (fun r σ' => xF F n x0 σ' ∧ Z8 x0 σ' ∧ gi σ' x0 10 = nI p) xno (xso x1) σ (x_structure_267 fu σ x0 x1) := by
  unfold x_structure_267 tailS
  rw [ckT_ok hA.1.1, nx_eq, hA.2.1]
  refine xT4.fr (sm.put (k := 10) (v := nI p) (by decide)) ?_
  generalize hs1 : gpi σ x0 10 (nI p) = σ1
  have hA1 : xA F n x0 p σ1 := by rw [← hs1]; exact ⟨hA.1.put, (gi_gpi_ne (Or.inr (by decide))).trans hA.2.1, hA.2.2.pk (by decide)⟩
  have v1 : gi σ1 x0 10 = nI p := by rw [← hs1, gi_gpi_eq]
  obtain ⟨h, hfu2⟩ : ∃ h, fu = h + 1 + 1 + 1 := ⟨fu - 3, by omega⟩
  -- one part of the members
  have part : ∀ {K : Nat → FE (Nat × Nat)} {Q : Nat × Nat → GS → Prop} (m p : Nat) (x5 : Int32) (σ : GS), ¬ (2 : Int32) ≤ x5 → p ≤ n → xA F n x0 p σ → 0 < m → (∀ q σ1, q ≤ n → xA F n x0 q σ1 → sm x0 [3, 4, 6, 8] σ σ1 → xT4 x0 LT (K q) Q xno (xso x1) σ1 (x_structure_278L fu m σ1 x0 x1 (x5 + 1))) → xT4 x0 LT (eb (membS F n p) K) Q xno (xso x1) σ (x_structure_278L fu (m + 1) σ x0 x1 x5) := by
    intro K Q m p x5 σ hx hp hA hm kk
    show xT4 _ _ _ _ _ _ _ (x_structure_278 fu (x_structure_278L fu m) σ x0 x1 x5)
    unfold x_structure_278 membS
    rw [if_neg hx, ckT_ok hA.1.1, if_pos hA.2.2.1, x_next2_ok hA hn hp, eb_eb]
    by_cases z1 : n < p + 2
    · rw [if_pos z1, Option.bind_some, show itS n p 2 = .error (1, p) from if_pos z1]
      refine xT4.er (by decide) (by decide) (by decide) ?_
      rw [show x_structure_300L fu (x_structure_278L fu m) fu ((0 : Int32), xwr σ x0 1 p).2 x0 x1 x5 ((0 : Int32), xwr σ x0 1 p).1 0 = x_structure_300 fu (x_structure_278L fu m) (x_structure_300L fu (x_structure_278L fu m) (h + 1 + 1)) (xwr σ x0 1 p) x0 x1 x5 0 0 from congrArg (fun z => x_structure_300L fu (x_structure_278L fu m) z (xwr σ x0 1 p) x0 x1 x5 0 0) hfu2]
      unfold x_structure_300 x_structure_360
      rw [if_pos (by decide), nx_eq]
      exact x_flag278 xwr8 hA.1.1 hm
    rw [if_neg z1, Option.bind_some, show itS n p 2 = .ok () from if_neg z1, eb_ok]
    refine xT4.fr (sm.put (k := 6) (v := nI (p + 2)) (by decide)) ?_
    have hu := U2_lt F p
    have := x_memb_loop (F := F) (n := n) (x0 := x0) (x1 := x1) (fu := fu) (K := K) (Q := Q) (x5 := x5) (k278 := x_structure_278L fu m) hn hfu (fun σ1 g8 g1 => x_flag278 g8 g1 hm) (U2 F p) fu (p + 2) 0 (gpi σ x0 6 (nI (p + 2))) (by omega) (by omega) (by omega) hA.to (fun q σ1 _ hq hA1 s1 => kk q σ1 hq hA1 ((sm.put (by decide)).tr s1))
    rw [Nat.zero_add] at this
    exact this
  rw [show x_structure_278L fu fu σ1 x0 x1 0 = x_structure_278L fu (h + 1 + 1 + 1) σ1 x0 x1 0 from congrArg (fun z => x_structure_278L fu z σ1 x0 x1 0) hfu2]
  refine part (h + 1 + 1) p 0 σ1 (by decide) hp hA1 (by omega) fun q2 σ2 hq2 hA2 s2 => ?_
  refine part (h + 1) q2 (0 + 1) σ2 (by decide) hq2 hA2 (by omega) fun q3 σ3 hq3 hA3 s3 => ?_
  show xT4 _ _ _ _ _ _ _ (x_structure_278 fu (x_structure_278L fu h) σ3 x0 x1 (0 + 1 + 1))
  unfold x_structure_278
  rw [if_pos (by decide)]
  unfold x_structure_366
  rw [ckT_ok hA3.1.1, if_pos hA3.2.2.1]
  refine (x_pass_ok (p := q3) hn hfu hq3 hA3).ap (by decide) (fun σ4 g8 g4 => by
    have g1 : gk σ4 x0 = 1 := by rw [g4]; exact hA3.1.1
    unfold x_structure_377 x_structure_407
    rw [ckT_ok g1, ckT_ok g1, g8, if_neg i10, if_neg i10]
    rfl) ?_
  rintro q4 σ4 e4 ⟨hA4, hq4⟩ s4
  unfold x_structure_377
  have v4 : gi σ4 x0 10 = nI p := by rw [s4.2.2.2.2.2.2.2.2.2 x0 10 (by simp), s3.2.2.2.2.2.2.2.2.2 x0 10 (by simp), s2.2.2.2.2.2.2.2.2.2 x0 10 (by simp), v1]
  obtain ⟨b1, g, b2, b3, b4, b5, b6⟩ := hA4.1
  rw [ckT_ok b1, if_pos hA4.2.2.1, b2, ckK_ok b3, b4, hA4.2.1]
  by_cases hq : q4 = n
  · rw [if_pos hq, if_pos (nI_le (by omega) (by omega))]
    unfold x_structure_407
    rw [ckT_ok b1, if_pos hA4.2.2.1]
    exact ⟨σ4, rfl, ⟨hA4.1, hA4.2.2, v4⟩, sm.rf⟩
  · rw [if_neg hq, if_neg (nI_ge (by omega) (by omega)), show (8 : Int32) = nI 8 from rfl, x_wrong_ok b1 hA4.2.2, Option.bind_some]
    unfold x_structure_407
    refine xT4.er (by decide) (by decide) (by decide) ?_
    show ckT (xwr σ4 x0 8 q4) 1 x0 _ = _
    rw [ckT_ok (show gk (xwr σ4 x0 8 q4) x0 = 1 from b1), show gi ((0 : Int32), xwr σ4 x0 8 q4).2 x0 8 = 1 from xwr8, if_neg i10]
    rfl
theorem x_ifs_loop {F : Nat → Int32} {n x0 x1 fu : Nat} (hn : n ≤ 20000) (hfu : 65536 < fu) : ∀ (k f p i : Nat) (σ : GS), k < f → i + k < 2 ^ 31 → p ≤ n → xA F n x0 p σ → xT4 x0 LT (eb (skI n k p) fun q1 => eb (tailS F n q1) fun r => .ok (q1, r)) (fun r σ' => xF F n x0 σ' ∧ Z8 x0 σ' ∧ gi σ' x0 10 = nI r.1) xno (xso x1) σ (x_structure_242L fu f σ x0 x1 (nI (i + k)) (nI i)) := by
  intro k
  induction k with
  | zero =>
    intro f p i σ hf hi hp hA
    obtain ⟨f, rfl⟩ : ∃ z9, f = z9 + 1 := ⟨f - 1, by omega⟩
    show xT4 _ _ (eb (tailS F n p) fun r => .ok (p, r)) _ _ _ σ (x_structure_242 fu (x_structure_242L fu f) σ x0 x1 (nI (i + 0)) (nI i))
    unfold x_structure_242
    rw [if_pos (nI_le (by omega) (by omega))]
    have := x_tail_ok (x1 := x1) hn hfu hp hA
    revert this
    cases tailS F n p with
    | error e => exact id
    | ok a => exact id
  | succ k ih =>
    intro f p i σ hf hi hp hA
    obtain ⟨f, rfl⟩ : ∃ z9, f = z9 + 1 := ⟨f - 1, by omega⟩
    show xT4 _ _ (eb (eb (itS n p 2) fun _ => skI n k (p + 2)) _) _ _ _ σ (x_structure_242 fu (x_structure_242L fu f) σ x0 x1 (nI (i + (k + 1))) (nI i))
    unfold x_structure_242
    rw [if_neg (nI_ge (by omega) (by omega)), ckT_ok hA.1.1, if_pos hA.2.2.1, x_next2_ok hA hn hp, eb_eb]
    by_cases z1 : n < p + 2
    · rw [if_pos z1, Option.bind_some, show itS n p 2 = .error (1, p) from if_pos z1]
      refine ⟨gpi (xwr σ x0 1 p) x0 10 (gi (xwr σ x0 1 p) x0 6), ?_, ⟨(gi_gpi_ne (Or.inr (by decide))).trans xwr_ok.1, (gi_gpi_ne (Or.inr (by decide))).trans xwr_ok.2.1, (gi_gpi_ne (Or.inr (by decide))).trans xwr_ok.2.2⟩, (sm.wr (by decide) (by decide) (by decide)).tr (sm.put (by decide))⟩
      rw [nx_eq, nI_1]
      obtain ⟨f, rfl⟩ : ∃ z9, f = z9 + 1 := ⟨f - 1, by omega⟩
      have e267 : x_structure_267 fu (xwr σ x0 1 p) x0 x1 = some (xno (gpi (xwr σ x0 1 p) x0 10 (gi (xwr σ x0 1 p) x0 6))) := by
        unfold x_structure_267
        rw [ckT_ok (show gk (xwr σ x0 1 p) x0 = 1 from hA.1.1), nx_eq]
        exact x_flag278 ((gi_gpi_ne (Or.inr (by decide))).trans xwr8) hA.1.1 (by omega)
      show x_structure_242 fu (x_structure_242L fu f) (xwr σ x0 1 p) x0 x1 (nI (i + (k + 1))) (nI (i + 1)) = _
      unfold x_structure_242
      rw [ckT_ok (show gk (xwr σ x0 1 p) x0 = 1 from hA.1.1), xwr8, if_neg i10, e267]
      split <;> rfl
    rw [if_neg z1, Option.bind_some, show itS n p 2 = .ok () from if_neg z1, eb_ok]
    refine xT4.fr (sm.put (k := 6) (v := nI (p + 2)) (by decide)) ?_
    rw [nx_eq, nI_1]
    have := ih f (p + 2) (i + 1) (gpi σ x0 6 (nI (p + 2))) (by omega) (by omega) (by omega) hA.to
    rw [show i + 1 + k = i + (k + 1) by omega] at this
    exact this
end XTail2
