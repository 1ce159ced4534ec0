/-! methods: the component's loop -/
section Mth3
set_option maxRecDepth 100000
variable {P : PD} {x0 c lo hd fa fu : Nat} {N : Nat → Prop} {σ : GS}
/-- a method's name -/
theorem x_mt_name {A s fl : Nat} {X Y : Option (Int32 × GS)} (hQ : xQ P x0 c lo N hd fa σ) (hfu : 131072 < fu) (h0 : gi σ c 0 = nI fl) (ka : gk σ A = 4) (r1 : gr σ A 1 = some s) {t : List Nat} (hs : sS t s σ) : (ckK σ 6 (some s) fun a33 => (x_J2_length σ a33).bind fun r36 => (x_isPlainName fu σ a33 (0 : Int32) r36 (1 : Int32)).bind fun r38 => if r38 = 0 then (x_X5_isInit fu σ A).bind fun r41 => if r41 = 0 then (ckT σ 4 A (ckK σ 6 (gr σ A 1) fun a2 => (x_J2_equals fu σ a2 (gz σ 14)).bind fun r5 => if r5 = 0 then Y else X)) else (x_X3_isFace σ c).bind fun r44 => if r44 = 0 then X else (ckT σ 4 A (ckK σ 6 (gr σ A 1) fun a2 => (x_J2_equals fu σ a2 (gz σ 14)).bind fun r5 => if r5 = 0 then Y else X)) else X) = ci (PlainS t 0 t.length True ∨ (t = lT 10 ∧ ¬ ¬ (nI fl &&& (512 : Int32)) = 0) ∨ t = lT 11) X Y := by
  have hT := hs.toxT
  have hlen := hT.2.1
  have e1 : x_isPlainName fu σ s (0 : Int32) (nI t.length) (1 : Int32) = some (bi (PlainS t 0 t.length True)) := by
    have := x_isPlainName_ok (fu := fu) (a := 0) (om := 1) hT (Nat.le_refl _) (by omega) (by omega)
    rw [show ((1 : Int32) ≠ 0) = True from propext ⟨fun _ => trivial, fun _ => by decide⟩] at this
    exact this
  have e147 : (ckT σ 4 A (ckK σ 6 (gr σ A 1) fun a2 => (x_J2_equals fu σ a2 (gz σ 14)).bind fun r5 => if r5 = 0 then Y else X)) = ci (t = lT 11) X Y := by
    rw [ckT_ok ka, r1, ckK_ok hs.1, x_equals_ok hs (hQ.2.2.1 14 (by omega)).1 hfu, Option.bind_some, show xl 14 = lT 11 from rfl]
    by_cases q : t = lT 11
    · rw [ib_t q, ci_t q]
    · rw [ib_f q, ci_f q]
  rw [ckK_ok hs.1, hT.2.2.2.1, Option.bind_some, e1, Option.bind_some, x_isInit_ok hQ.2.2.1 hfu ka r1 hs, Option.bind_some, x_X3_isFace_ok hQ.2.1.1.1.1 h0, Option.bind_some, e147]
  by_cases q1 : PlainS t 0 t.length True
  · rw [ib_t q1, ci_t (Or.inl q1)]
  rw [ib_f q1]
  by_cases q2 : t = lT 10
  · rw [ib_t q2]
    by_cases q3 : ¬ (nI fl &&& (512 : Int32)) = 0
    · rw [ib_t q3]
      by_cases q4 : t = lT 11
      · rw [ci_t q4, ci_t (Or.inr (Or.inr q4))]
      · rw [ci_f q4, ci_f (fun w => w.elim q1 (fun w => w.elim (fun w => w.2 q3) q4))]
    · rw [ib_f q3, ci_t (Or.inr (Or.inl ⟨q2, q3⟩))]
  · rw [ib_f q2]
    by_cases q4 : t = lT 11
    · rw [ci_t q4, ci_t (Or.inr (Or.inr q4))]
    · rw [ci_f q4, ci_f (fun w => w.elim q1 (fun w => w.elim (fun w => q2 w.1) q4))]
theorem x_mt_loop {C S mm nn fl q : Nat} {fin : Prop} (g : PG P) (hfu : 131072 < fu) (hnn : nn < 65536) (hNf : ¬ N mm) (hfx : mm ≠ x0) (hfc : mm ≠ c) : ∀ d k fz p M σ, k + d = nn → d < fz → xQ P x0 c lo N hd fa σ → (∀ a, N a → a < gx σ) → gr σ c 13 = some mm → gk σ mm = 107 → gn σ mm = nn → gi σ c 0 = nI fl → gi σ x0 6 = nI p → (∀ j, j < k → ∃ f, (gr σ mm j = some f ∧ mm < f) ∧ xMt P N c f (M j) σ ∧ gi σ f 14 = 0) → skM P.1 P.2.1 d p = .ok q → C + (P.2.1 - p) ≤ gc σ → S + 4 * (P.2.1 - p) ≤ gs σ →
    xC x0 (fun b j => wx x0 b j ∨ b = mm) C S (mtS P (¬ (nI fl &&& (512 : Int32)) = 0) fin d k p M) (fun M' σ' => Z8 x0 σ' ∧ gi σ' x0 6 = nI q ∧ (∀ j, j < nn → ∃ f, (gr σ' mm j = some f ∧ mm < f) ∧ xMt P N c f (M' j) σ' ∧ gi σ' f 14 = 0) ∧ C + (P.2.1 - q) ≤ gc σ' ∧ S + 4 * (P.2.1 - q) ≤ gs σ') σ (x_checkMethods_15L fu fz σ x0 c (nI nn) (nI k)) := by
  have hn := g.1
  intro d
  induction d with
  | zero =>
    intro k fz p M σ hk hf hQ hNx h13 kf nf h0 h6 hv hq hC hS
    obtain ⟨fz, rfl⟩ : ∃ z9, fz = z9 + 1 := ⟨fz - 1, by omega⟩
    show xC _ _ _ _ _ _ _ (x_checkMethods_15 fu (x_checkMethods_15L fu fz) σ x0 c (nI nn) (nI k))
    cases hq
    unfold x_checkMethods_15 mtS
    rw [if_pos (nI_le (by omega) (by omega))]
    exact xC.ok ⟨hQ.2.2.2, h6, fun j hj => hv j (by omega), hC, hS⟩
  | succ d ih =>
    intro k fz p M σ hk hf hQ hNx h13 kf nf h0 h6 hv hq hC hS
    obtain ⟨fz, rfl⟩ : ∃ z9, fz = z9 + 1 := ⟨fz - 1, by omega⟩
    show xC _ _ _ _ _ _ _ (x_checkMethods_15 fu (x_checkMethods_15L fu fz) σ x0 c (nI nn) (nI k))
    obtain ⟨hp, q', hat, hq'n, hpq, hq⟩ := skM_su hq
    have hx := hQ.2.1.2.1.1
    have hc := hQ.2.1.1.1.1
    have lx : x0 < gx σ := hQ.1.lt (by rw [hx]; decide)
    have lc : c < gx σ := hQ.1.lt (by rw [hc]; decide)
    have lf : mm < gx σ := hQ.1.lt (by rw [kf]; decide)
    have ncx : c ≠ x0 := fun z => by rw [z, hx] at hc; exact absurd hc (by decide)
    have hNA : ¬ N (gx σ) := fun z => by have := hNx _ z; omega
    have u0 := U2_lt P.1 p
    have u2 := U2_lt P.1 (p + 2)
    have u4 := U2_lt P.1 (p + 4)
    have mkQ : ∀ s, Fq (fun a j => a = mm ∧ j = k) σ s → xQ P x0 c lo N hd fa s := fun s G => hQ.fr G (fun a j _ z => by rw [z.1]; exact Or.inr (Or.inr ⟨hNf, hfx⟩)) (Z8.fq G lx (fun _ _ z => hfx z.1.symm) hQ.2.2.2)
    have er : ∀ s r pl, Fq (fun a j => a = mm ∧ j = k) σ s → gc s = gc σ - 2 → gs s = gs σ - 22 → xC x0 (fun b j => wx x0 b j ∨ b = mm) C S (.error (r, pl) : FE (Nat → MR)) (fun M' σ' => Z8 x0 σ' ∧ gi σ' x0 6 = nI q ∧ (∀ j, j < nn → ∃ f, (gr σ' mm j = some f ∧ mm < f) ∧ xMt P N c f (M' j) σ' ∧ gi σ' f 14 = 0) ∧ C + (P.2.1 - q) ≤ gc σ' ∧ S + 4 * (P.2.1 - q) ≤ gs σ') σ (some (0, xwr s x0 r pl)) := fun s r pl G e1 e2 => ⟨_, rfl, xwr_ok, (G.mo (fun a j _ z => Or.inr z.1)).tr (Fq.wr (fun _ _ z => Or.inl z)), by rw [gc_xwr]; omega, by rw [gs_xwr]; omega⟩
    have ew : ∀ s (r pl : Nat), Fq (fun a j => a = mm ∧ j = k) σ s → ckT s 1 x0 ((x_wrong s x0 (nI r) (nI pl)).bind fun r2 => ckN .boolean r2.1 (some (r2.1, r2.2))) = some (0, xwr s x0 r pl) := fun s r pl G => by rw [ckT_ok (mkQ s G).2.1.2.1.1, x_wrong_ok (mkQ s G).2.1.2.1.1 (mkQ s G).2.2.2, Option.bind_some, ckN_0]
    unfold x_checkMethods_15 mtS x_X5_init x_X5_init_0
    have G4 : Fq (fun a j => a = mm ∧ j = k) σ (gnew σ 4 0 22) := Fq.new
    rw [if_neg (nI_ge (by omega) (by omega)), ckC_ok ⟨by omega, by omega⟩, nx_eq, nx_eq]
    have k4 : gk (gnew σ 4 0 22) (gx σ) = 4 := by rw [gk_gnew, if_pos rfl]
    have c4 : gc (gnew σ 4 0 22) = gc σ - 1 := gc_gnew
    have s4 : gs (gnew σ 4 0 22) = gs σ - 22 := gs_gnew
    have x4 : gx (gnew σ 4 0 22) = gx σ + 1 := gx_gnew
    have i4 : ∀ j, gi (gnew σ 4 0 22) (gx σ) j = 0 := fun j => by rw [gi_gnew, if_pos rfl]
    generalize gnew σ 4 0 22 = t4 at *
    rw [nA_step0 (by omega) k4 (by omega), Option.bind_some]
    have G6 : Fq (fun a j => a = mm ∧ j = k) σ (nA t4 100 0 (gx σ) 12) := (G4.trw (W2 := fun a j => a = gx σ ∧ j = 12) (fq_nA ⟨rfl, rfl⟩) (fun _ _ _ z => z) (fun a j ha z => by have := z.1; omega))
    have k6 : gk (nA t4 100 0 (gx σ) 12) (gx σ) = 4 := by rw [gk_nA, if_neg (by omega)]; exact k4
    have i6 : ∀ j, gi (nA t4 100 0 (gx σ) 12) (gx σ) j = 0 := fun j => by rw [gi_nA, if_neg (by omega)]; exact i4 j
    have r6 : gr (nA t4 100 0 (gx σ) 12) (gx σ) 12 = some (gx σ + 1) := by rw [gr_nA, if_pos ⟨rfl, rfl⟩, x4]
    have ra6 : gk (nA t4 100 0 (gx σ) 12) (gx σ + 1) = 100 := by rw [gk_nA, if_pos (by omega)]
    have rn6 : gn (nA t4 100 0 (gx σ) 12) (gx σ + 1) = 0 := by rw [gn_nA, if_pos (by omega)]
    have c6 : gc (nA t4 100 0 (gx σ) 12) = gc σ - 2 := by rw [gc_nA]; omega
    have s6 : gs (nA t4 100 0 (gx σ) 12) = gs σ - 22 := by rw [gs_nA]; omega
    have x6 : gx (nA t4 100 0 (gx σ) 12) = gx σ + 2 := by rw [gx_nA]; omega
    generalize nA t4 100 0 (gx σ) 12 = t6 at *
    have Q6 := mkQ _ G6
    rw [ckT_ok Q6.2.1.1.1.1, (G6.gr lc (fun z => hfc z.1.symm)).trans h13, ckK_ok (G6.gk hQ.1 kf (by decide)), ckT_ok k6, (G6.gn lf).trans nf, ckIn_n (by omega) (by omega), nx_eq, nx_eq, nI_clamp (by omega)]
    have G15 : Fq (fun a j => a = mm ∧ j = k) σ (gpr (gpr t6 mm k (some (gx σ))) (gx σ) 0 (some c)) := (G6.tr (Fq.pr ⟨rfl, rfl⟩)).prN (Nat.le_refl _)
    have k15 : gk (gpr (gpr t6 mm k (some (gx σ))) (gx σ) 0 (some c)) (gx σ) = 4 := gk_gpr.trans (gk_gpr.trans k6)
    have i15 : ∀ j, gi (gpr (gpr t6 mm k (some (gx σ))) (gx σ) 0 (some c)) (gx σ) j = 0 := fun j => gi_gpr.trans (gi_gpr.trans (i6 j))
    have r15 : gr (gpr (gpr t6 mm k (some (gx σ))) (gx σ) 0 (some c)) mm k = some (gx σ) := by rw [gr_gpr_ne (Or.inl (by omega)), gr_gpr_eq]
    have o15 : gr (gpr (gpr t6 mm k (some (gx σ))) (gx σ) 0 (some c)) (gx σ) 0 = some c := gr_gpr_eq
    have w15 : gr (gpr (gpr t6 mm k (some (gx σ))) (gx σ) 0 (some c)) (gx σ) 12 = some (gx σ + 1) := by rw [gr_gpr_ne (Or.inr (by decide)), gr_gpr_ne (Or.inl (by omega))]; exact r6
    have a15 : gk (gpr (gpr t6 mm k (some (gx σ))) (gx σ) 0 (some c)) (gx σ + 1) = 100 := gk_gpr.trans (gk_gpr.trans ra6)
    have n15 : gn (gpr (gpr t6 mm k (some (gx σ))) (gx σ) 0 (some c)) (gx σ + 1) = 0 := gn_gpr.trans (gn_gpr.trans rn6)
    have c15 : gc (gpr (gpr t6 mm k (some (gx σ))) (gx σ) 0 (some c)) = gc σ - 2 := gc_gpr.trans (gc_gpr.trans c6)
    have s15 : gs (gpr (gpr t6 mm k (some (gx σ))) (gx σ) 0 (some c)) = gs σ - 22 := gs_gpr.trans (gs_gpr.trans s6)
    have x15 : gx (gpr (gpr t6 mm k (some (gx σ))) (gx σ) 0 (some c)) = gx σ + 2 := gx_gpr.trans (gx_gpr.trans x6)
    generalize gpr (gpr t6 mm k (some (gx σ))) (gx σ) 0 (some c) = t15 at *
    have Q15 := mkQ _ G15
    have e6 : gi t15 x0 6 = nI p := (G15.gi lx (fun z => hfx z.1.symm)).trans h6
    rw [ckT_ok Q15.2.1.2.1.1, nx_eq, e6, nI_2, nI_4, x_u2_ok Q15.2.1.2.1 (by omega), Option.bind_some, nx_eq]
    have G20 : Fq (fun a j => a = mm ∧ j = k) σ (gpi t15 (gx σ) 5 (nI (U2 P.1 p))) := G15.piN (Nat.le_refl _)
    have Q20 := mkQ _ G20
    rw [x_u2_ok Q20.2.1.2.1 (by omega), Option.bind_some, nx_eq]
    have G23 : Fq (fun a j => a = mm ∧ j = k) σ (gpi (gpi t15 (gx σ) 5 (nI (U2 P.1 p))) (gx σ) 3 (nI (U2 P.1 (p + 2)))) := G20.piN (Nat.le_refl _)
    have Q23 := mkQ _ G23
    rw [x_u2_ok Q23.2.1.2.1 (by omega), Option.bind_some, nx_eq]
    have G26 : Fq (fun a j => a = mm ∧ j = k) σ (gpi (gpi (gpi t15 (gx σ) 5 (nI (U2 P.1 p))) (gx σ) 3 (nI (U2 P.1 (p + 2)))) (gx σ) 4 (nI (U2 P.1 (p + 4)))) := G23.piN (Nat.le_refl _)
    have k26 : gk (gpi (gpi (gpi t15 (gx σ) 5 (nI (U2 P.1 p))) (gx σ) 3 (nI (U2 P.1 (p + 2)))) (gx σ) 4 (nI (U2 P.1 (p + 4)))) (gx σ) = 4 := gk_gpi.trans (gk_gpi.trans (gk_gpi.trans k15))
    have i265 : gi (gpi (gpi (gpi t15 (gx σ) 5 (nI (U2 P.1 p))) (gx σ) 3 (nI (U2 P.1 (p + 2)))) (gx σ) 4 (nI (U2 P.1 (p + 4)))) (gx σ) 5 = nI (U2 P.1 p) := by rw [gi_gpi_ne (Or.inr (by decide)), gi_gpi_ne (Or.inr (by decide)), gi_gpi_eq]
    have i263 : gi (gpi (gpi (gpi t15 (gx σ) 5 (nI (U2 P.1 p))) (gx σ) 3 (nI (U2 P.1 (p + 2)))) (gx σ) 4 (nI (U2 P.1 (p + 4)))) (gx σ) 3 = nI (U2 P.1 (p + 2)) := by rw [gi_gpi_ne (Or.inr (by decide)), gi_gpi_eq]
    have i264 : gi (gpi (gpi (gpi t15 (gx σ) 5 (nI (U2 P.1 p))) (gx σ) 3 (nI (U2 P.1 (p + 2)))) (gx σ) 4 (nI (U2 P.1 (p + 4)))) (gx σ) 4 = nI (U2 P.1 (p + 4)) := gi_gpi_eq
    have i260 : ∀ j, j = 6 ∨ j = 7 ∨ j = 8 ∨ j = 9 ∨ j = 10 ∨ j = 14 → gi (gpi (gpi (gpi t15 (gx σ) 5 (nI (U2 P.1 p))) (gx σ) 3 (nI (U2 P.1 (p + 2)))) (gx σ) 4 (nI (U2 P.1 (p + 4)))) (gx σ) j = 0 := fun j hj => by rw [gi_gpi_ne (Or.inr (by omega)), gi_gpi_ne (Or.inr (by omega)), gi_gpi_ne (Or.inr (by omega))]; exact i15 j
    have g26 : ∀ a j, gr (gpi (gpi (gpi t15 (gx σ) 5 (nI (U2 P.1 p))) (gx σ) 3 (nI (U2 P.1 (p + 2)))) (gx σ) 4 (nI (U2 P.1 (p + 4)))) a j = gr t15 a j := fun a j => gr_gpi.trans (gr_gpi.trans gr_gpi)
    have a26 : gk (gpi (gpi (gpi t15 (gx σ) 5 (nI (U2 P.1 p))) (gx σ) 3 (nI (U2 P.1 (p + 2)))) (gx σ) 4 (nI (U2 P.1 (p + 4)))) (gx σ + 1) = 100 := gk_gpi.trans (gk_gpi.trans (gk_gpi.trans a15))
    have n26 : gn (gpi (gpi (gpi t15 (gx σ) 5 (nI (U2 P.1 p))) (gx σ) 3 (nI (U2 P.1 (p + 2)))) (gx σ) 4 (nI (U2 P.1 (p + 4)))) (gx σ + 1) = 0 := gn_gpi.trans (gn_gpi.trans (gn_gpi.trans n15))
    have c26 : gc (gpi (gpi (gpi t15 (gx σ) 5 (nI (U2 P.1 p))) (gx σ) 3 (nI (U2 P.1 (p + 2)))) (gx σ) 4 (nI (U2 P.1 (p + 4)))) = gc σ - 2 := gc_gpi.trans (gc_gpi.trans (gc_gpi.trans c15))
    have s26 : gs (gpi (gpi (gpi t15 (gx σ) 5 (nI (U2 P.1 p))) (gx σ) 3 (nI (U2 P.1 (p + 2)))) (gx σ) 4 (nI (U2 P.1 (p + 4)))) = gs σ - 22 := gs_gpi.trans (gs_gpi.trans (gs_gpi.trans s15))
    have x26 : gx (gpi (gpi (gpi t15 (gx σ) 5 (nI (U2 P.1 p))) (gx σ) 3 (nI (U2 P.1 (p + 2)))) (gx σ) 4 (nI (U2 P.1 (p + 4)))) = gx σ + 2 := gx_gpi.trans (gx_gpi.trans (gx_gpi.trans x15))
    generalize gpi (gpi (gpi t15 (gx σ) 5 (nI (U2 P.1 p))) (gx σ) 3 (nI (U2 P.1 (p + 2)))) (gx σ) 4 (nI (U2 P.1 (p + 4))) = t26 at *
    have Q26 := mkQ _ G26
    rw [x_u2_ok Q26.2.1.2.1 (by omega), Option.bind_some]
    have e165 : ∀ s, Fq (fun a j => a = mm ∧ j = k) σ s → x_checkMethods_165 fu (x_checkMethods_15L fu fz) s x0 c (nI nn) (nI k) (gx σ) (nI p) = some (0, xwr s x0 24 (p + 2)) := fun s G => by
      unfold x_checkMethods_165 x_checkMethods_166
      rw [if_pos rfl, nI_2]
      exact ew s 24 (p + 2) G
    by_cases t2 : tgP P (U2 P.1 (p + 2)) = 1
    case neg =>
      have G31 : Fq (fun a j => a = mm ∧ j = k) σ (gpr t26 (gx σ) 1 none) := G26.prN (Nat.le_refl _)
      rw [x_ta_no Q26.2.1.1 g u2 t2, Option.bind_some, nx_eq, gr_gpr_eq, if_pos rfl, ci_f (fun w => t2 w.1), e165 _ G31]
      exact er _ 24 (p + 2) G31 (gc_gpr.trans c26) (gs_gpr.trans s26)
    obtain ⟨s, b1, b2⟩ := x_pt Q26.2.1.1 g u2 t2
    have G31 : Fq (fun a j => a = mm ∧ j = k) σ (gpr t26 (gx σ) 1 (some s)) := G26.prN (Nat.le_refl _)
    have nW : ∀ b (j : Nat), N b → gk t26 b = 6 ∨ gk t26 b = 101 → ¬ (fun b (_ : Nat) => b = gx σ) b j := fun b j m _ z => hNA (by have z : b = gx σ := z; rw [← z]; exact m)
    have b31 : pS N (n2 P p) s (gpr t26 (gx σ) 1 (some s)) := b2.fr (W := fun b _ => b = gx σ) (Fq.pr rfl) Q26.1 nW
    rw [b1, Option.bind_some, nx_eq]
    have k31 : gk (gpr t26 (gx σ) 1 (some s)) (gx σ) = 4 := gk_gpr.trans k26
    have i31 : ∀ j, gi (gpr t26 (gx σ) 1 (some s)) (gx σ) j = gi t26 (gx σ) j := fun j => gi_gpr
    have r31 : gr (gpr t26 (gx σ) 1 (some s)) (gx σ) 1 = some s := gr_gpr_eq
    have o31 : gr (gpr t26 (gx σ) 1 (some s)) (gx σ) 0 = some c := by rw [gr_gpr_ne (Or.inr (by decide)), g26]; exact o15
    have w31 : gr (gpr t26 (gx σ) 1 (some s)) (gx σ) 12 = some (gx σ + 1) := by rw [gr_gpr_ne (Or.inr (by decide)), g26]; exact w15
    have f31 : gr (gpr t26 (gx σ) 1 (some s)) mm k = some (gx σ) := by rw [gr_gpr_ne (Or.inl (by omega)), g26]; exact r15
    have a31 : gk (gpr t26 (gx σ) 1 (some s)) (gx σ + 1) = 100 := gk_gpr.trans a26
    have n31 : gn (gpr t26 (gx σ) 1 (some s)) (gx σ + 1) = 0 := gn_gpr.trans n26
    have c31 : gc (gpr t26 (gx σ) 1 (some s)) = gc σ - 2 := gc_gpr.trans c26
    have s31 : gs (gpr t26 (gx σ) 1 (some s)) = gs σ - 22 := gs_gpr.trans s26
    have x31 : gx (gpr t26 (gx σ) 1 (some s)) = gx σ + 2 := gx_gpr.trans x26
    generalize gpr t26 (gx σ) 1 (some s) = t31 at *
    have Q31 := mkQ _ G31
    have h031 : gi t31 c 0 = nI fl := (G31.gi lc (fun z => hfc z.1.symm)).trans h0
    rw [r31, if_neg snn]
    unfold x_checkMethods_147
    have hname := x_mt_name (X := x_checkMethods_161 fu (x_checkMethods_15L fu fz) t31 x0 c (nI nn) (nI k) (gx σ) (nI p)) (Y := x_checkMethods_165 fu (x_checkMethods_15L fu fz) t31 x0 c (nI nn) (nI k) (gx σ) (nI p)) Q31 hfu h031 k31 r31 b31.1
    rw [hname]
    by_cases q1 : PlainS (n2 P p) 0 (n2 P p).length True ∨ (n2 P p = lT 10 ∧ ¬ ¬ (nI fl &&& (512 : Int32)) = 0) ∨ n2 P p = lT 11
    case neg =>
      rw [ci_f q1, ci_f (fun w => q1 w.2), e165 _ G31]
      exact er _ 24 (p + 2) G31 c31 s31
    rw [ci_t q1, ci_t (show mnP P (¬ (nI fl &&& (512 : Int32)) = 0) p from ⟨t2, q1⟩)]
    unfold x_checkMethods_161 x_checkMethods_166
    rw [if_neg i10, x_flags_ok Q31.2.1.1 Q31.2.2.1 hfu k31 ((i31 5).trans i265) u0 r31 b31.1 h031, Option.bind_some]
    by_cases q2 : n2 P p = lT 11 ∨ mflP P (¬ (nI fl &&& (512 : Int32)) = 0) (n2 P p = lT 10) (U2 P.1 p)
    case neg =>
      rw [ib_f q2, ci_f q2, show (23 : Int32) = nI 23 from rfl, ew t31 23 p G31]
      exact er _ 23 p G31 c31 s31
    rw [ib_t q2, ci_t q2, ckT_ok Q31.2.1.2.1.1, nI_4, x_u2_ok Q31.2.1.2.1 (by omega), Option.bind_some]
    have e293 : ∀ s, Fq (fun a j => a = mm ∧ j = k) σ s → x_checkMethods_293 fu s x0 (nI p) = some (0, xwr s x0 25 (p + 4)) := fun s G => by
      unfold x_checkMethods_293
      rw [nI_4]
      exact ew s 25 (p + 4) G
    by_cases t4' : tgP P (U2 P.1 (p + 4)) = 1
    case neg =>
      have G11 : Fq (fun a j => a = mm ∧ j = k) σ (gpr t31 (gx σ) 2 none) := G31.prN (Nat.le_refl _)
      unfold x_checkMethods_239
      rw [x_ta_no Q31.2.1.1 g u4 t4', Option.bind_some, ckT_ok k31, nx_eq, gr_gpr_eq, if_pos rfl, ci_f (fun w => t4' w.1), if_pos (by decide), e293 _ G11]
      exact er _ 25 (p + 4) G11 (gc_gpr.trans c31) (gs_gpr.trans s31)
    obtain ⟨t, d1, d2⟩ := x_pt Q31.2.1.1 g u4 t4'
    have G11 : Fq (fun a j => a = mm ∧ j = k) σ (gpr t31 (gx σ) 2 (some t)) := G31.prN (Nat.le_refl _)
    have nW31 : ∀ b (j : Nat), N b → gk t31 b = 6 ∨ gk t31 b = 101 → ¬ (fun b (_ : Nat) => b = gx σ) b j := fun b j m _ z => hNA (by have z : b = gx σ := z; rw [← z]; exact m)
    have d11 : pS N (n4 P p) t (gpr t31 (gx σ) 2 (some t)) := d2.fr (W := fun b _ => b = gx σ) (Fq.pr rfl) Q31.1 nW31
    have b11 : pS N (n2 P p) s (gpr t31 (gx σ) 2 (some t)) := b31.fr (W := fun b _ => b = gx σ) (Fq.pr rfl) Q31.1 nW31
    rw [d1, Option.bind_some, ckT_ok k31, nx_eq, gr_gpr_eq, if_neg snn, ckR_ok]
    have k11 : gk (gpr t31 (gx σ) 2 (some t)) (gx σ) = 4 := gk_gpr.trans k31
    have i11 : ∀ j, gi (gpr t31 (gx σ) 2 (some t)) (gx σ) j = gi t26 (gx σ) j := fun j => gi_gpr.trans (i31 j)
    have r111 : gr (gpr t31 (gx σ) 2 (some t)) (gx σ) 1 = some s := by rw [gr_gpr_ne (Or.inr (by decide))]; exact r31
    have r112 : gr (gpr t31 (gx σ) 2 (some t)) (gx σ) 2 = some t := gr_gpr_eq
    have o11 : gr (gpr t31 (gx σ) 2 (some t)) (gx σ) 0 = some c := by rw [gr_gpr_ne (Or.inr (by decide))]; exact o31
    have w11 : gr (gpr t31 (gx σ) 2 (some t)) (gx σ) 12 = some (gx σ + 1) := by rw [gr_gpr_ne (Or.inr (by decide))]; exact w31
    have f11 : gr (gpr t31 (gx σ) 2 (some t)) mm k = some (gx σ) := by rw [gr_gpr_ne (Or.inl (by omega))]; exact f31
    have a11 : gk (gpr t31 (gx σ) 2 (some t)) (gx σ + 1) = 100 := gk_gpr.trans a31
    have n11 : gn (gpr t31 (gx σ) 2 (some t)) (gx σ + 1) = 0 := gn_gpr.trans n31
    have c11 : gc (gpr t31 (gx σ) 2 (some t)) = gc σ - 2 := gc_gpr.trans c31
    have s11 : gs (gpr t31 (gx σ) 2 (some t)) = gs σ - 22 := gs_gpr.trans s31
    have x11 : gx (gpr t31 (gx σ) 2 (some t)) = gx σ + 2 := gx_gpr.trans x31
    generalize gpr t31 (gx σ) 2 (some t) = t11 at *
    have Q11 := mkQ _ G11
    have hK := Q11.2.2.1.k (fu := fu) (by omega)
    have hTd := d11.1.toxT
    have j5 : gi t11 (gx σ) 5 = nI (U2 P.1 p) := (i11 5).trans i265
    rw [x_placesOf_ok hTd hK (by omega), Option.bind_some]
    unfold x_checkMethods_239
    have e25 := er t11 25 (p + 4) G11 c11 s11
    cases hpl : placesS (n4 P p) with
    | none =>
      rw [if_pos (show oI none < 0 by decide), e293 _ G11, ci_f (fun w => w.2.1 hpl)]
      exact e25
    | some cc =>
      have hle := placesS_le hpl
      rw [if_neg (show ¬ oI (some cc) < 0 from nI_pos (by omega)), ckT_ok k11, x_isInit_ok Q11.2.2.1 hfu k11 r111 b11.1, Option.bind_some]
      have hpn : placesS (n4 P p) ≠ none := by rw [hpl]; simp
      -- the rest, once the descriptor is right
      have go : mdP P p → xC x0 (fun b j => wx x0 b j ∨ b = mm) C S (ci (∀ j, 0 ≤ j → j < k → ¬ (n2 P (M j).1 = n2 P p ∧ n4 P (M j).1 = n4 P p)) (eb (attsS P 1 fin (U2 P.1 p) (n4 P p) (npS (n4 P p) (U2 P.1 p)) (U2 P.1 (p + 6)) (p + 8) 0 (fun _ => 0)) fun a => ci (¬ a 3 = 0 ↔ bare P p) (.error (27, p)) (eb (attrS P.1 P.2.1 (p + 6)) fun q => mtS P (¬ (nI fl &&& (512 : Int32)) = 0) fin d (k + 1) q (uM M k (p, a)))) (.error (26, p))) (fun M' σ' => Z8 x0 σ' ∧ gi σ' x0 6 = nI q ∧ (∀ j, j < nn → ∃ f, (gr σ' mm j = some f ∧ mm < f) ∧ xMt P N c f (M' j) σ' ∧ gi σ' f 14 = 0) ∧ C + (P.2.1 - q) ≤ gc σ' ∧ S + 4 * (P.2.1 - q) ≤ gs σ') σ (x_checkMethods_304 fu (x_checkMethods_15L fu fz) t11 x0 c (nI nn) (nI k) (gx σ) (nI p)) := by
        intro _
        unfold x_checkMethods_304
        have hv11 : ∀ j, j < k → ∃ f, gr t11 mm j = some f ∧ xMt P N c f (M j) t11 := fun j hj => by
          obtain ⟨f, ⟨f1, -⟩, f2, -⟩ := hv j hj
          exact ⟨f, (G11.gr lf (fun z => by have := z.2; omega)).trans f1, f2.fr G11 hQ.1 (fun a i ha _ z => by rw [z.1, kf] at ha; exact absurd ha (by decide)) (fun a i ha z => by rw [z.1, kf] at ha; omega) (fun a i m _ z => hNf (z.1 ▸ m))⟩
        refine xC.trw G11 (W2 := fun b j => wx x0 b j ∨ b = mm ∨ b = gx σ) ?_ (fun a j _ z => Or.inr z.1) (fun a j ha z => by
          rcases z with z | z | z
          · exact Or.inl z
          · exact Or.inr z
          · omega)
        refine x_mt_tail (fin := fin) (mm := mm) (q := q') (M := M) (S2 := S + 2 * (P.2.1 - (p + 6))) g hfu (by omega) (by omega) hNA Q11 (fun a z => by have := hNx a z; omega) ((G11.gr lc (fun z => hfc z.1.symm)).trans h13) (G11.gk hQ.1 kf (by decide)) ((G11.gn lf).trans nf) hnn (by omega) hp hat k11 o11 j5 ((i11 3).trans i263) ((i11 4).trans i264) (fun j hj => (i11 j).trans (i260 j hj)) w11 a11 n11 r111 b11 r112 d11 hpn hv11 (by omega) (by omega) (by omega) (fun a σ' f5 h85 h65 hMt h145 c5 s5 => ?_) _ (fun b j z => Or.inl z) (fun j => Or.inr (Or.inr rfl)) (fun j => Or.inr (Or.inl rfl))
        rw [hat, eb_ok]
        have lf11 : mm < gx t11 := by omega
        have lc11 : c < gx t11 := by omega
        have nff : ∀ j, ¬ (wx x0 mm j ∨ mm = gx σ) := fun j z => z.elim (fun z => hfx z.1) (fun z => by omega)
        have Q5 := Q11.fr f5 (fun b j _ z => by
          rcases z with z | z
          · exact Or.inl z
          · rw [z]
            exact Or.inr (Or.inr ⟨hNA, by omega⟩)) h85
        have x5 := f5.1
        refine ih (k + 1) fz q' (uM M k (p, a)) σ' (by omega) (by omega) Q5 (fun b z => by have := hNx b z; omega) ((f5.gr lc11 (fun z => z.elim (fun z => ncx z.1) (fun z => by omega))).trans ((G11.gr lc (fun z => hfc z.1.symm)).trans h13)) (f5.gk Q11.1 (G11.gk hQ.1 kf (by decide)) (by decide)) ((f5.gn lf11).trans ((G11.gn lf).trans nf)) ((f5.gi lc11 (fun z => z.elim (fun z => ncx z.1) (fun z => by omega))).trans ((G11.gi lc (fun z => hfc z.1.symm)).trans h0)) h65 (fun j hj => ?_) hq c5 (by omega)
        rcases Nat.lt_or_ge j k with z | z
        · obtain ⟨f0, ⟨g1, g1l⟩, g2, g3⟩ := hv j z
          have lf0 : f0 < gx σ := hQ.1.lt (by rw [g2.1.1]; decide)
          have G5 : Fq (fun b i => wx x0 b i ∨ (b = mm ∧ i = k)) σ σ' := G11.trw f5 (fun _ _ _ z => Or.inr z) (fun b i hb z => z.elim Or.inl (fun z => by omega))
          have n4' : ∀ b i, gk σ b = 4 → ¬ (wx x0 b i ∨ (b = mm ∧ i = k)) := fun b i hb z => by
            rcases z with z | z
            · rw [z.1, hx] at hb
              exact absurd hb (by decide)
            · rw [z.1, kf] at hb
              exact absurd hb (by decide)
          refine ⟨f0, ⟨(G5.gr lf (fun z => z.elim (fun z => hfx z.1) (fun z => by have := z.2; omega))).trans g1, g1l⟩, ?_, (G5.gi lf0 (n4' f0 14 g2.1.1)).trans g3⟩
          rw [show uM M k (p, a) j = M j from if_neg (by omega)]
          refine g2.fr G5 hQ.1 (fun b i hb _ => n4' b i hb) (fun b i hb z => ?_) (fun b i m _ z => ?_)
          · rcases z with z | z
            · rw [z.1, hx] at hb
              omega
            · rw [z.1, kf] at hb
              omega
          · rcases z with z | z
            · exact hQ.2.1.2.2.2.2.2.2 (z.1 ▸ m)
            · exact hNf (z.1 ▸ m)
        · rw [show j = k by omega, show uM M k (p, a) k = (p, a) from if_pos rfl]
          exact ⟨gx σ, ⟨(f5.gr lf11 (nff k)).trans f11, lf⟩, hMt, h145⟩
      have e277 : (n2 P p = lT 10 → ch (n4 P p) ((n4 P p).length - 1) = 86) → xC x0 (fun b j => wx x0 b j ∨ b = mm) C S (ci (mdP P p) (ci (∀ j, 0 ≤ j → j < k → ¬ (n2 P (M j).1 = n2 P p ∧ n4 P (M j).1 = n4 P p)) (eb (attsS P 1 fin (U2 P.1 p) (n4 P p) (npS (n4 P p) (U2 P.1 p)) (U2 P.1 (p + 6)) (p + 8) 0 (fun _ => 0)) fun a => ci (¬ a 3 = 0 ↔ bare P p) (.error (27, p)) (eb (attrS P.1 P.2.1 (p + 6)) fun q => mtS P (¬ (nI fl &&& (512 : Int32)) = 0) fin d (k + 1) q (uM M k (p, a)))) (.error (26, p))) (.error (25, p + 4))) (fun M' σ' => Z8 x0 σ' ∧ gi σ' x0 6 = nI q ∧ (∀ j, j < nn → ∃ f, (gr σ' mm j = some f ∧ mm < f) ∧ xMt P N c f (M' j) σ' ∧ gi σ' f 14 = 0) ∧ C + (P.2.1 - q) ≤ gc σ' ∧ S + 4 * (P.2.1 - q) ≤ gs σ') σ (x_checkMethods_277 fu (x_checkMethods_15L fu fz) t11 x0 c (nI nn) (nI k) (gx σ) (nI p) (oI (some cc))) := by
        intro hV
        unfold x_checkMethods_277 x_X5_isStatic x_X5_isStatic_0
        rw [ckT_ok k11, ckT_ok k11, j5]
        by_cases c255 : cc = 255
        · rw [if_pos (show oI (some cc) = (255 : Int32) by rw [c255]; rfl)]
          by_cases q8 : (nI (U2 P.1 p) &&& (8 : Int32)) = 0
          · rw [if_pos q8, Option.bind_some, if_pos rfl, e293 _ G11, ci_f (fun w => w.2.2.2 ⟨by rw [hpl, c255], q8⟩)]
            exact e25
          · have hm : mdP P p := ⟨t4', hpn, hV, fun w => q8 w.2⟩
            rw [if_neg q8, Option.bind_some, if_neg i10, ci_t hm]
            exact go hm
        · have hm : mdP P p := ⟨t4', hpn, hV, fun w => c255 (Option.some.inj (hpl.symm.trans w.1))⟩
          rw [if_neg (show ¬ oI (some cc) = (255 : Int32) from nL (k := 255) (by omega) (by omega) c255), ci_t hm]
          exact go hm
      by_cases qi : n2 P p = lT 10
      · have hlt := hTd.2.1
        have hcl := hTd.2.2.1 ((n4 P p).length - 1)
        have e1 : nI (n4 P p).length - 1 = nI ((n4 P p).length - 1) := pk_sub (b := 1) (by omega)
        rw [ib_t qi, r112, ckK_ok d11.1.1, hTd.2.2.2.1, Option.bind_some, e1, hTd.2.2.2.2 _ (by omega), Option.bind_some]
        by_cases q86 : ch (n4 P p) ((n4 P p).length - 1) = 86
        · rw [if_pos (show nI (ch (n4 P p) ((n4 P p).length - 1)) = (86 : Int32) by rw [q86]; rfl)]
          exact e277 (fun _ => q86)
        · rw [if_neg (nL (k := 86) (by omega) (by omega) q86), e293 _ G11, ci_f (fun w => q86 (w.2.2.1 qi))]
          exact e25
      · rw [ib_f qi]
        exact e277 (fun w => absurd w qi)
end Mth3
