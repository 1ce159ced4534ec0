/-! fields: the component's loop -/
section Fld3
set_option maxRecDepth 100000
variable {P : PD} {x0 c lo hd fa fu : Nat} {N : Nat → Prop} {σ : GS}
theorem x_fd_flags {f fl : Nat} {A B : Option (Int32 × GS)} (hf : f < 65536) (hc : gk σ c = 2) (h0 : gi σ c 0 = nI fl) : ((x_isMoreThanOne σ (nI f)).bind fun r19 => if r19 = 0 then if ((nI f) &&& (80 : Int32)) = (80 : Int32) then A else (x_X3_isFace σ c).bind fun r23 => if r23 = 0 then B else if ((nI f) &&& (16607 : Int32)) = (25 : Int32) then B else A else A) = ci (fbad (¬ (nI fl &&& (512 : Int32)) = 0) f) A B := by
  have e80 : ((nI f) &&& (80 : Int32)) = (80 : Int32) ↔ f.testBit 4 = true ∧ f.testBit 6 = true := nI2b (i := 4) (j := 6) hf (by omega) (by omega)
  rw [x_more_ok hf, Option.bind_some, x_X3_isFace_ok hc h0, Option.bind_some]
  unfold fbad
  by_cases q1 : mto f
  · rw [ib_t q1, ci_t (Or.inl q1)]
  rw [ib_f q1]
  by_cases q2 : f.testBit 4 = true ∧ f.testBit 6 = true
  · rw [if_pos (e80.mpr q2), ci_t (Or.inr (Or.inl q2))]
  rw [if_neg (fun w => q2 (e80.mp w))]
  by_cases q3 : ¬ (nI fl &&& (512 : Int32)) = 0
  · rw [ib_t q3]
    by_cases q4 : (nI f &&& (16607 : Int32)) = 25
    · rw [if_pos q4, ci_f (fun w => w.elim q1 (fun w => w.elim q2 (fun w => w.2 q4)))]
    · rw [if_neg q4, ci_t (Or.inr (Or.inr ⟨q3, q4⟩))]
  · rw [ib_f q3, ci_f (fun w => w.elim q1 (fun w => w.elim q2 (fun w => q3 w.1)))]
theorem x_fd_loop {C S ff nn fl q : Nat} {fin : Prop} (g : PG P) (hfu : 131072 < fu) (hnn : nn < 65536) (hNf : ¬ N ff) (hfx : ff ≠ x0) (hfc : ff ≠ c) : ∀ d k fz p M σ, k + d = nn → d < fz → xQ P x0 c lo N hd fa σ → (∀ a, N a → a < gx σ) → gr σ c 12 = some ff → gk σ ff = 106 → gn σ ff = nn → gi σ c 0 = nI fl → gi σ x0 6 = nI p → (∀ j, j < k → ∃ f, gr σ ff j = some f ∧ xFd P N f (M j) σ) → skM P.1 P.2.1 d p = .ok q → C + (P.2.1 - p) ≤ gc σ → S + 2 * (P.2.1 - p) ≤ gs σ →
    xC x0 (fun b j => wx x0 b j ∨ b = ff) C S (fdS P (¬ (nI fl &&& (512 : Int32)) = 0) fin d k p M) (fun M' σ' => Z8 x0 σ' ∧ gi σ' x0 6 = nI q ∧ (∀ j, j < nn → ∃ f, gr σ' ff j = some f ∧ xFd P N f (M' j) σ') ∧ C + (P.2.1 - q) ≤ gc σ' ∧ S + 2 * (P.2.1 - q) ≤ gs σ') σ (x_checkFields_23L fu fz σ x0 c (nI nn) (nI k)) := by
  have hn := g.1
  intro d
  induction d with
  | zero =>
    intro k fz p M σ hk hf hQ hNx h12 kf nf h0 h6 hv hq hC hS
    obtain ⟨fz, rfl⟩ : ∃ z9, fz = z9 + 1 := ⟨fz - 1, by omega⟩
    show xC _ _ _ _ _ _ _ (x_checkFields_23 fu (x_checkFields_23L fu fz) σ x0 c (nI nn) (nI k))
    cases hq
    unfold x_checkFields_23 fdS
    rw [if_pos (nI_le (by omega) (by omega))]
    exact xC.ok ⟨hQ.2.2.2, h6, fun j hj => hv j (by omega), hC, hS⟩
  | succ d ih =>
    intro k fz p M σ hk hf hQ hNx h12 kf nf h0 h6 hv hq hC hS
    obtain ⟨fz, rfl⟩ : ∃ z9, fz = z9 + 1 := ⟨fz - 1, by omega⟩
    show xC _ _ _ _ _ _ _ (x_checkFields_23 fu (x_checkFields_23L fu fz) σ x0 c (nI nn) (nI k))
    obtain ⟨hp, q', hat, hq'n, hpq, hq⟩ := skM_su hq
    have hx := hQ.2.1.2.1.1
    have hc := hQ.2.1.1.1.1
    have lx : x0 < gx σ := hQ.1.lt (by rw [hx]; decide)
    have lc : c < gx σ := hQ.1.lt (by rw [hc]; decide)
    have lf : ff < gx σ := hQ.1.lt (by rw [kf]; decide)
    have ncx : c ≠ x0 := fun z => by rw [z, hx] at hc; exact absurd hc (by decide)
    have hNA : ¬ N (gx σ) := fun z => by have := hNx _ z; omega
    have u0 := U2_lt P.1 p
    have u2 := U2_lt P.1 (p + 2)
    have u4 := U2_lt P.1 (p + 4)
    -- states that differ from σ in ff's place k alone, and in the new object
    have mkQ : ∀ s, Fq (fun a j => a = ff ∧ j = k) σ s → xQ P x0 c lo N hd fa s := fun s G => hQ.fr G (fun a j _ z => by rw [z.1]; exact Or.inr (Or.inr ⟨hNf, hfx⟩)) (Z8.fq G lx (fun _ _ z => hfx z.1.symm) hQ.2.2.2)
    have er : ∀ s r pl, Fq (fun a j => a = ff ∧ j = k) σ s → gc s = gc σ - 1 → gs s = gs σ - 8 → xC x0 (fun b j => wx x0 b j ∨ b = ff) C S (.error (r, pl) : FE (Nat → MR)) (fun M' σ' => Z8 x0 σ' ∧ gi σ' x0 6 = nI q ∧ (∀ j, j < nn → ∃ f, gr σ' ff j = some f ∧ xFd P N f (M' j) σ') ∧ C + (P.2.1 - q) ≤ gc σ' ∧ S + 2 * (P.2.1 - q) ≤ gs σ') σ (some (0, xwr s x0 r pl)) := fun s r pl G e1 e2 => ⟨_, rfl, xwr_ok, (G.mo (fun a j _ z => Or.inr z.1)).tr (Fq.wr (fun _ _ z => Or.inl z)), by rw [gc_xwr]; omega, by rw [gs_xwr]; omega⟩
    have ew : ∀ s (r pl : Nat), Fq (fun a j => a = ff ∧ j = k) σ s → ckT s 1 x0 ((x_wrong s x0 (nI r) (nI pl)).bind fun r2 => ckN .boolean r2.1 (some (r2.1, r2.2))) = some (0, xwr s x0 r pl) := fun s r pl G => by rw [ckT_ok (mkQ s G).2.1.2.1.1, x_wrong_ok (mkQ s G).2.1.2.1.1 (mkQ s G).2.2.2, Option.bind_some, ckN_0]
    unfold x_checkFields_23 fdS
    have G4 : Fq (fun a j => a = ff ∧ j = k) σ (gnew σ 3 0 8) := Fq.new
    have Q4 := mkQ _ G4
    rw [if_neg (nI_ge (by omega) (by omega)), ckC_ok ⟨by omega, by omega⟩, nx_eq, nx_eq, show x_X4_init (gnew σ 3 0 8) (gx σ) = some () from rfl, Option.bind_some, ckT_ok Q4.2.1.1.1.1, gr_gnew, if_neg (by omega), h12, ckK_ok (by rw [gk_gnew, if_neg (by omega)]; exact kf), gn_gnew, if_neg (by omega), nf, ckIn_n (by omega) (by omega), nx_eq, nI_clamp (by omega)]
    have G13 : Fq (fun a j => a = ff ∧ j = k) σ (gpr (gnew σ 3 0 8) ff k (some (gx σ))) := G4.tr (Fq.pr ⟨rfl, rfl⟩)
    have k13 : gk (gpr (gnew σ 3 0 8) ff k (some (gx σ))) (gx σ) = 3 := by rw [gk_gpr, gk_gnew, if_pos rfl]
    have i13 : ∀ j, gi (gpr (gnew σ 3 0 8) ff k (some (gx σ))) (gx σ) j = 0 := fun j => by rw [gi_gpr, gi_gnew, if_pos rfl]
    have r13 : gr (gpr (gnew σ 3 0 8) ff k (some (gx σ))) ff k = some (gx σ) := gr_gpr_eq
    have c13 : gc (gpr (gnew σ 3 0 8) ff k (some (gx σ))) = gc σ - 1 := gc_gpr.trans gc_gnew
    have s13 : gs (gpr (gnew σ 3 0 8) ff k (some (gx σ))) = gs σ - 8 := gs_gpr.trans gs_gnew
    have x13 : gx (gpr (gnew σ 3 0 8) ff k (some (gx σ))) = gx σ + 1 := gx_gpr.trans gx_gnew
    generalize gpr (gnew σ 3 0 8) ff k (some (gx σ)) = t13 at *
    have Q13 := mkQ _ G13
    have e6 : gi t13 x0 6 = nI p := (G13.gi lx (fun z => hfx z.1.symm)).trans h6
    rw [ckT_ok Q13.2.1.2.1.1, nx_eq, e6, x_u2_ok Q13.2.1.2.1 (by omega), Option.bind_some, nx_eq, gi_gpi_eq]
    have G18 : Fq (fun a j => a = ff ∧ j = k) σ (gpi t13 (gx σ) 4 (nI (U2 P.1 p))) := G13.piN (Nat.le_refl _)
    have k18 : gk (gpi t13 (gx σ) 4 (nI (U2 P.1 p))) (gx σ) = 3 := gk_gpi.trans k13
    have i18 : ∀ j, j ≠ 4 → gi (gpi t13 (gx σ) 4 (nI (U2 P.1 p))) (gx σ) j = 0 := fun j hj => (gi_gpi_ne (Or.inr hj)).trans (i13 j)
    have i184 : gi (gpi t13 (gx σ) 4 (nI (U2 P.1 p))) (gx σ) 4 = nI (U2 P.1 p) := gi_gpi_eq
    have r18 : gr (gpi t13 (gx σ) 4 (nI (U2 P.1 p))) ff k = some (gx σ) := gr_gpi.trans r13
    have c18 : gc (gpi t13 (gx σ) 4 (nI (U2 P.1 p))) = gc σ - 1 := gc_gpi.trans c13
    have s18 : gs (gpi t13 (gx σ) 4 (nI (U2 P.1 p))) = gs σ - 8 := gs_gpi.trans s13
    have x18 : gx (gpi t13 (gx σ) 4 (nI (U2 P.1 p))) = gx σ + 1 := gx_gpi.trans x13
    generalize gpi t13 (gx σ) 4 (nI (U2 P.1 p)) = t18 at *
    have Q18 := mkQ _ G18
    rw [x_fd_flags u0 Q18.2.1.1.1.1 ((G18.gi lc (fun z => hfc z.1.symm)).trans h0)]
    unfold x_checkFields_107 x_checkFields_111 x_checkFields_112
    by_cases qf : fbad (¬ (nI fl &&& (512 : Int32)) = 0) (U2 P.1 p)
    · rw [ci_t qf, ci_t qf, if_neg i10, show (19 : Int32) = nI 19 from rfl, ew t18 19 p G18]
      exact er t18 19 p G18 c18 s18
    rw [ci_f qf, ci_f qf, if_pos rfl, ckT_ok Q18.2.1.2.1.1, nI_2, nI_4, x_u2_ok Q18.2.1.2.1 (by omega), Option.bind_some, ckT_ok k18, nx_eq]
    have G6 : Fq (fun a j => a = ff ∧ j = k) σ (gpi t18 (gx σ) 2 (nI (U2 P.1 (p + 2)))) := G18.piN (Nat.le_refl _)
    have Q6 := mkQ _ G6
    rw [x_u2_ok Q6.2.1.2.1 (by omega), Option.bind_some, nx_eq]
    have G9 : Fq (fun a j => a = ff ∧ j = k) σ (gpi (gpi t18 (gx σ) 2 (nI (U2 P.1 (p + 2)))) (gx σ) 3 (nI (U2 P.1 (p + 4)))) := G6.piN (Nat.le_refl _)
    have k9 : gk (gpi (gpi t18 (gx σ) 2 (nI (U2 P.1 (p + 2)))) (gx σ) 3 (nI (U2 P.1 (p + 4)))) (gx σ) = 3 := gk_gpi.trans (gk_gpi.trans k18)
    have i94 : gi (gpi (gpi t18 (gx σ) 2 (nI (U2 P.1 (p + 2)))) (gx σ) 3 (nI (U2 P.1 (p + 4)))) (gx σ) 4 = nI (U2 P.1 p) := by rw [gi_gpi_ne (Or.inr (by decide)), gi_gpi_ne (Or.inr (by decide))]; exact i184
    have i92 : gi (gpi (gpi t18 (gx σ) 2 (nI (U2 P.1 (p + 2)))) (gx σ) 3 (nI (U2 P.1 (p + 4)))) (gx σ) 2 = nI (U2 P.1 (p + 2)) := by rw [gi_gpi_ne (Or.inr (by decide)), gi_gpi_eq]
    have i93 : gi (gpi (gpi t18 (gx σ) 2 (nI (U2 P.1 (p + 2)))) (gx σ) 3 (nI (U2 P.1 (p + 4)))) (gx σ) 3 = nI (U2 P.1 (p + 4)) := gi_gpi_eq
    have i97 : gi (gpi (gpi t18 (gx σ) 2 (nI (U2 P.1 (p + 2)))) (gx σ) 3 (nI (U2 P.1 (p + 4)))) (gx σ) 7 = 0 := by rw [gi_gpi_ne (Or.inr (by decide)), gi_gpi_ne (Or.inr (by decide))]; exact i18 7 (by decide)
    have i95 : gi (gpi (gpi t18 (gx σ) 2 (nI (U2 P.1 (p + 2)))) (gx σ) 3 (nI (U2 P.1 (p + 4)))) (gx σ) 5 = 0 := by rw [gi_gpi_ne (Or.inr (by decide)), gi_gpi_ne (Or.inr (by decide))]; exact i18 5 (by decide)
    have r9 : gr (gpi (gpi t18 (gx σ) 2 (nI (U2 P.1 (p + 2)))) (gx σ) 3 (nI (U2 P.1 (p + 4)))) ff k = some (gx σ) := gr_gpi.trans (gr_gpi.trans r18)
    have c9 : gc (gpi (gpi t18 (gx σ) 2 (nI (U2 P.1 (p + 2)))) (gx σ) 3 (nI (U2 P.1 (p + 4)))) = gc σ - 1 := gc_gpi.trans (gc_gpi.trans c18)
    have s9 : gs (gpi (gpi t18 (gx σ) 2 (nI (U2 P.1 (p + 2)))) (gx σ) 3 (nI (U2 P.1 (p + 4)))) = gs σ - 8 := gs_gpi.trans (gs_gpi.trans s18)
    have x9 : gx (gpi (gpi t18 (gx σ) 2 (nI (U2 P.1 (p + 2)))) (gx σ) 3 (nI (U2 P.1 (p + 4)))) = gx σ + 1 := gx_gpi.trans (gx_gpi.trans x18)
    generalize gpi (gpi t18 (gx σ) 2 (nI (U2 P.1 (p + 2)))) (gx σ) 3 (nI (U2 P.1 (p + 4))) = t9 at *
    have Q9 := mkQ _ G9
    rw [x_u2_ok Q9.2.1.2.1 (by omega), Option.bind_some]
    have e200 : ∀ s, Fq (fun a j => a = ff ∧ j = k) σ s → x_checkFields_200 fu s x0 (nI p) = some (0, xwr s x0 20 (p + 2)) := fun s G => by
      unfold x_checkFields_200
      rw [nI_2]
      exact ew s 20 (p + 2) G
    have e247 : ∀ s, Fq (fun a j => a = ff ∧ j = k) σ s → x_checkFields_247 fu s x0 (nI p) = some (0, xwr s x0 21 (p + 4)) := fun s G => by
      unfold x_checkFields_247
      rw [nI_4]
      exact ew s 21 (p + 4) G
    by_cases t2 : tgP P (U2 P.1 (p + 2)) = 1
    case neg =>
      have G14 : Fq (fun a j => a = ff ∧ j = k) σ (gpr t9 (gx σ) 0 none) := G9.prN (Nat.le_refl _)
      rw [x_ta_no Q9.2.1.1 g u2 t2, Option.bind_some, nx_eq, gr_gpr_eq, if_pos rfl, ci_f (fun w => t2 w.1), e200 _ G14]
      exact er _ 20 (p + 2) G14 (gc_gpr.trans c9) (gs_gpr.trans s9)
    obtain ⟨s, b1, b2⟩ := x_pt Q9.2.1.1 g u2 t2
    have G14 : Fq (fun a j => a = ff ∧ j = k) σ (gpr t9 (gx σ) 0 (some s)) := G9.prN (Nat.le_refl _)
    have Q14 := mkQ _ G14
    have nW : ∀ b (j : Nat), N b → gk t9 b = 6 ∨ gk t9 b = 101 → ¬ (fun b (_ : Nat) => b = gx σ) b j := fun b j m _ z => hNA (by have z : b = gx σ := z; rw [← z]; exact m)
    have b14 : pS N (n2 P p) s (gpr t9 (gx σ) 0 (some s)) := b2.fr (W := fun b _ => b = gx σ) (Fq.pr rfl) Q9.1 nW
    have hT := b14.1.toxT
    have e1 : x_isPlainName fu (gpr t9 (gx σ) 0 (some s)) s (0 : Int32) (nI (n2 P p).length) (0 : Int32) = some (bi (PlainS (n2 P p) 0 (n2 P p).length False)) := by
      have := x_isPlainName_ok (fu := fu) (a := 0) (om := 0) hT (Nat.le_refl _) (by omega) (by omega)
      rw [show ((0 : Int32) ≠ 0) = False from propext ⟨fun z => z rfl, fun z => z.elim⟩] at this
      exact this
    rw [b1, Option.bind_some, nx_eq, gr_gpr_eq, if_neg snn, ckK_ok b14.1.1, hT.2.2.2.1, Option.bind_some, e1, Option.bind_some, e200 _ G14]
    by_cases q1 : PlainS (n2 P p) 0 (n2 P p).length False
    case neg =>
      rw [ib_f q1, ci_f (fun w => q1 w.2)]
      exact er _ 20 (p + 2) G14 (gc_gpr.trans c9) (gs_gpr.trans s9)
    rw [ib_t q1, ci_t ⟨t2, q1⟩, x_u2_ok Q14.2.1.2.1 (by omega), Option.bind_some]
    by_cases t4 : tgP P (U2 P.1 (p + 4)) = 1
    case neg =>
      have G28 : Fq (fun a j => a = ff ∧ j = k) σ (gpr (gpr t9 (gx σ) 0 (some s)) (gx σ) 1 none) := G14.prN (Nat.le_refl _)
      rw [x_ta_no Q14.2.1.1 g u4 t4, Option.bind_some, nx_eq, gr_gpr_eq, if_pos rfl, ci_f (fun w => t4 w.1), e247 _ G28]
      exact er _ 21 (p + 4) G28 (gc_gpr.trans (gc_gpr.trans c9)) (gs_gpr.trans (gs_gpr.trans s9))
    obtain ⟨t, d1, d2⟩ := x_pt Q14.2.1.1 g u4 t4
    have G28 : Fq (fun a j => a = ff ∧ j = k) σ (gpr (gpr t9 (gx σ) 0 (some s)) (gx σ) 1 (some t)) := G14.prN (Nat.le_refl _)
    have nW14 : ∀ b (j : Nat), N b → gk (gpr t9 (gx σ) 0 (some s)) b = 6 ∨ gk (gpr t9 (gx σ) 0 (some s)) b = 101 → ¬ (fun b (_ : Nat) => b = gx σ) b j := fun b j m _ z => hNA (by have z : b = gx σ := z; rw [← z]; exact m)
    have d28 : pS N (n4 P p) t (gpr (gpr t9 (gx σ) 0 (some s)) (gx σ) 1 (some t)) := d2.fr (W := fun b _ => b = gx σ) (Fq.pr rfl) Q14.1 nW14
    have b28 : pS N (n2 P p) s (gpr (gpr t9 (gx σ) 0 (some s)) (gx σ) 1 (some t)) := b14.fr (W := fun b _ => b = gx σ) (Fq.pr rfl) Q14.1 nW14
    rw [d1, Option.bind_some, nx_eq, gr_gpr_eq, if_neg snn, ckR_ok]
    have k28 : gk (gpr (gpr t9 (gx σ) 0 (some s)) (gx σ) 1 (some t)) (gx σ) = 3 := gk_gpr.trans (gk_gpr.trans k9)
    have i28 : ∀ j, gi (gpr (gpr t9 (gx σ) 0 (some s)) (gx σ) 1 (some t)) (gx σ) j = gi t9 (gx σ) j := fun j => gi_gpr.trans gi_gpr
    have r280 : gr (gpr (gpr t9 (gx σ) 0 (some s)) (gx σ) 1 (some t)) (gx σ) 0 = some s := by rw [gr_gpr_ne (Or.inr (by decide)), gr_gpr_eq]
    have r281 : gr (gpr (gpr t9 (gx σ) 0 (some s)) (gx σ) 1 (some t)) (gx σ) 1 = some t := gr_gpr_eq
    have r28f : gr (gpr (gpr t9 (gx σ) 0 (some s)) (gx σ) 1 (some t)) ff k = some (gx σ) := by rw [gr_gpr_ne (Or.inl (by omega)), gr_gpr_ne (Or.inl (by omega))]; exact r9
    have c28 : gc (gpr (gpr t9 (gx σ) 0 (some s)) (gx σ) 1 (some t)) = gc σ - 1 := gc_gpr.trans (gc_gpr.trans c9)
    have s28 : gs (gpr (gpr t9 (gx σ) 0 (some s)) (gx σ) 1 (some t)) = gs σ - 8 := gs_gpr.trans (gs_gpr.trans s9)
    have x28 : gx (gpr (gpr t9 (gx σ) 0 (some s)) (gx σ) 1 (some t)) = gx σ + 1 := gx_gpr.trans (gx_gpr.trans x9)
    generalize gpr (gpr t9 (gx σ) 0 (some s)) (gx σ) 1 (some t) = t28 at *
    have Q28 := mkQ _ G28
    have hK := Q28.2.2.1.k (fu := fu) (by omega)
    rw [x_isFieldType_ok d28.1.toxT hK (by omega), Option.bind_some, e247 _ G28]
    by_cases q2 : FieldS (n4 P p)
    case neg =>
      rw [ib_f q2, ci_f (fun w => q2 w.2)]
      exact er _ 21 (p + 4) G28 c28 s28
    rw [ib_t q2, ci_t ⟨t4, q2⟩]
    have hv28 : ∀ j, j < k → ∃ f, gr t28 ff j = some f ∧ xFd P N f (M j) t28 := fun j hj => by
      obtain ⟨f, f1, f2⟩ := hv j hj
      exact ⟨f, (G28.gr lf (fun z => by have := z.2; omega)).trans f1, f2.fr G28 hQ.1 (fun a i ha z => by rw [z.1, kf] at ha; exact absurd ha (by decide)) (fun a i m _ z => hNf (z.1 ▸ m))⟩
    refine xC.trw G28 (W2 := fun b j => wx x0 b j ∨ b = ff ∨ b = gx σ) ?_ (fun a j _ z => Or.inr z.1) (fun a j ha z => by
      rcases z with z | z | z
      · exact Or.inl z
      · exact Or.inr z
      · omega)
    refine x_fd_tail (fin := fin) (ff := ff) (q := q') (M := M) g hfu (by omega) hNA Q28 (fun a z => by have := hNx a z; omega) ((G28.gr lc (fun z => hfc z.1.symm)).trans h12) (G28.gk hQ.1 kf (by decide)) ((G28.gn lf).trans nf) hnn (by omega) hp hat k28 ((i28 4).trans i94) ((i28 2).trans i92) ((i28 3).trans i93) ((i28 7).trans i97) ((i28 5).trans i95) r280 b28 r281 d28 q2 hv28 (by omega) (by omega) (fun a σ' f5 h85 h65 hFd c5 s5 => ?_) _ (fun b j z => Or.inl z) (fun j => Or.inr (Or.inr rfl)) (fun j => Or.inr (Or.inl rfl))
    rw [hat, eb_ok]
    have lf28 : ff < gx t28 := by omega
    have lc28 : c < gx t28 := by omega
    have nff : ∀ j, ¬ (wx x0 ff j ∨ ff = gx σ) := fun j z => z.elim (fun z => hfx z.1) (fun z => by omega)
    have Q5 := Q28.fr f5 (fun b j _ z => by
      rcases z with z | z
      · exact Or.inl z
      · rw [z]
        exact Or.inr (Or.inr ⟨hNA, by omega⟩)) h85
    have x5 := f5.1
    refine ih (k + 1) fz q' (uM M k (p, a)) σ' (by omega) (by omega) Q5 (fun b z => by have := hNx b z; omega) ((f5.gr lc28 (fun z => z.elim (fun z => ncx z.1) (fun z => by omega))).trans ((G28.gr lc (fun z => hfc z.1.symm)).trans h12)) (f5.gk Q28.1 (G28.gk hQ.1 kf (by decide)) (by decide)) ((f5.gn lf28).trans ((G28.gn lf).trans nf)) ((f5.gi lc28 (fun z => z.elim (fun z => ncx z.1) (fun z => by omega))).trans ((G28.gi lc (fun z => hfc z.1.symm)).trans h0)) h65 (fun j hj => ?_) hq c5 s5
    rcases Nat.lt_or_ge j k with z | z
    · obtain ⟨f, f1, f2⟩ := hv28 j z
      obtain ⟨f0, g1, g2⟩ := hv j z
      have ef : f = f0 := by
        rw [G28.gr lf (fun z => by have := z.2; omega), g1] at f1
        exact (Option.some.inj f1).symm
      have lf0 : f0 < gx σ := hQ.1.lt (by rw [g2.1]; decide)
      refine ⟨f, (f5.gr lf28 (nff j)).trans f1, ?_⟩
      rw [show uM M k (p, a) j = M j from if_neg (by omega)]
      -- the frame from σ itself
      have G5 : Fq (fun b i => wx x0 b i ∨ (b = ff ∧ i = k)) σ σ' := G28.trw f5 (fun _ _ _ z => Or.inr z) (fun b i hb z => z.elim Or.inl (fun z => by omega))
      rw [ef]
      refine g2.fr G5 hQ.1 (fun b i hb z => ?_) (fun b i m _ z => ?_)
      · rcases z with z | z
        · rw [z.1, hx] at hb
          exact absurd hb (by decide)
        · rw [z.1, kf] at hb
          exact absurd hb (by decide)
      · rcases z with z | z
        · exact hQ.2.1.2.2.2.2.2.2 (z.1 ▸ m)
        · exact hNf (z.1 ▸ m)
    · rw [show j = k by omega, show uM M k (p, a) k = (p, a) from if_pos rfl]
      exact ⟨gx σ, (f5.gr lf28 (nff k)).trans r28f, hFd⟩
/-- the fields that the component keeps -/
def xFs (P : PD) (N : Nat → Prop) (c nn : Nat) (M : Nat → MR) (σ : GS) : Prop := ∃ ff, gr σ c 12 = some ff ∧ gk σ ff = 106 ∧ gn σ ff = nn ∧ ∀ j, j < nn → ∃ f, gr σ ff j = some f ∧ xFd P N f (M j) σ
theorem xFs.fr {nn : Nat} {M : Nat → MR} {σ' : GS} {W : Nat → Nat → Prop} (h : xFs P N c nn M σ) (f : Fq W σ σ') (hw : WF σ) (hc : gk σ c = 2) (h1 : ¬ W c 12) (h2 : ∀ a j, gk σ a = 3 ∨ gk σ a = 106 → ¬ W a j) (hN : ∀ a j, N a → gk σ a = 6 ∨ gk σ a = 101 → ¬ W a j) : xFs P N c nn M σ' := by
  obtain ⟨ff, a1, a2, a3, a4⟩ := h
  have lc : c < gx σ := hw.lt (by rw [hc]; decide)
  have lf : ff < gx σ := hw.lt (by rw [a2]; decide)
  refine ⟨ff, (f.gr lc h1).trans a1, f.gk hw a2 (by decide), (f.gn lf).trans a3, fun j hj => ?_⟩
  obtain ⟨u, b1, b2⟩ := a4 j hj
  exact ⟨u, (f.gr lf (h2 ff j (Or.inr a2))).trans b1, b2.fr f hw (fun a i ha => h2 a i (Or.inl ha)) hN⟩
noncomputable def fldS (P : PD) (face fin : Prop) (p : Nat) : FE (Nat → MR) := fdS P face fin (U2 P.1 p) 0 (p + 2) (fun _ => (0, fun _ => 0))
theorem x_checkFields_ok {C S fl q : Nat} {fin : Prop} (g : PG P) (hfu : 131072 < fu) (hQ : xQ P x0 c lo N hd fa σ) (hNx : ∀ a, N a → a < gx σ) (h0 : gi σ c 0 = nI fl) (hq : membS P.1 P.2.1 fa = .ok q) (hC : C + P.2.1 + 1 ≤ gc σ) (hS : S + 3 * P.2.1 ≤ gs σ) :
    xC x0 (fun a j => wx x0 a j ∨ (a = c ∧ j = 12)) C S (fldS P (¬ (nI fl &&& (512 : Int32)) = 0) fin fa) (fun M' σ' => Z8 x0 σ' ∧ gi σ' x0 6 = nI q ∧ xFs P N c (U2 P.1 fa) M' σ' ∧ C + (P.2.1 - q) ≤ gc σ' ∧ S + 2 * (P.2.1 - q) ≤ gs σ') σ (x_checkFields fu σ x0 c) := by
  have hn := g.1
  have hx := hQ.2.1.2.1.1
  have hc := hQ.2.1.1.1.1
  have lx : x0 < gx σ := hQ.1.lt (by rw [hx]; decide)
  have lc : c < gx σ := hQ.1.lt (by rw [hc]; decide)
  have ncx : c ≠ x0 := fun z => by rw [z, hx] at hc; exact absurd hc (by decide)
  have hu := U2_lt P.1 fa
  unfold membS at hq
  obtain ⟨_, h1, hq⟩ := eb_inv hq
  have h1 := itS_ok h1
  -- members have eight bytes at least
  have hm8 : ∀ d p r, skM P.1 P.2.1 d p = .ok r → p ≤ P.2.1 → p + 8 * d ≤ P.2.1 := by
    intro d
    induction d with
    | zero => intro p r _ h; omega
    | succ d ih =>
      intro p r h hp
      obtain ⟨a1, r', a2, a3, a4, a5⟩ := skM_su h
      have := ih r' r a5 a3
      omega
  have hm := hm8 _ _ _ hq (by omega)
  unfold x_checkFields x_checkFields_0 fldS
  have A1 : xA P.1 P.2.1 x0 fa (gpi σ x0 6 (nI fa)) := ⟨hQ.2.1.2.1.put, gi_gpi_eq, hQ.2.2.2.pk (by decide)⟩
  rw [ckT_ok hx, nx_eq, hQ.2.1.2.2.2.2.2.1.2, x_next2_ok A1 (by omega) (by omega), if_neg (by omega), Option.bind_some]
  have G2 : Fq (fun a j => wx x0 a j ∨ (a = c ∧ j = 12)) σ (gpi (gpi σ x0 6 (nI fa)) x0 6 (nI (fa + 2))) := (Fq.pi (Or.inl ⟨rfl, by omega⟩)).tr (Fq.pi (Or.inl ⟨rfl, by omega⟩))
  have Q2 : xQ P x0 c lo N hd fa (gpi (gpi σ x0 6 (nI fa)) x0 6 (nI (fa + 2))) := hQ.at6.at6
  have e6 : gi (gpi (gpi σ x0 6 (nI fa)) x0 6 (nI (fa + 2))) x0 6 = nI (fa + 2) := gi_gpi_eq
  have e0 : gi (gpi (gpi σ x0 6 (nI fa)) x0 6 (nI (fa + 2))) c 0 = nI fl := by rw [gi_gpi_ne (Or.inl ncx), gi_gpi_ne (Or.inl ncx)]; exact h0
  have c2 : gc (gpi (gpi σ x0 6 (nI fa)) x0 6 (nI (fa + 2))) = gc σ := gc_gpi.trans gc_gpi
  have s2 : gs (gpi (gpi σ x0 6 (nI fa)) x0 6 (nI (fa + 2))) = gs σ := gs_gpi.trans gs_gpi
  have x2 : gx (gpi (gpi σ x0 6 (nI fa)) x0 6 (nI (fa + 2))) = gx σ := gx_gpi.trans gx_gpi
  show xC x0 _ C S _ _ σ (ckL (nI (U2 P.1 fa)) (ckC (gpi (gpi σ x0 6 (nI fa)) x0 6 (nI (fa + 2))) (nI (U2 P.1 fa)).toNatClampNeg _))
  refine xC.fr G2 ?_
  generalize gpi (gpi σ x0 6 (nI fa)) x0 6 (nI (fa + 2)) = σ2 at *
  rw [nA_step (by omega) ⟨by omega, by omega⟩ Q2.2.1.1.1.1 (by omega)]
  have f3 : Fq (fun a j => wx x0 a j ∨ (a = c ∧ j = 12)) σ2 (nA σ2 106 (U2 P.1 fa) c 12) := fq_nA (Or.inr ⟨rfl, rfl⟩)
  have h83 : Z8 x0 (nA σ2 106 (U2 P.1 fa) c 12) := Z8.nA (by omega) Q2.2.2.2
  have Q3 := Q2.fr f3 (fun a j _ z => by
    rcases z with z | z
    · exact Or.inl z
    · exact Or.inr (Or.inl ⟨z.1, by have := z.2; omega⟩)) h83
  have r3 : gr (nA σ2 106 (U2 P.1 fa) c 12) c 12 = some (gx σ2) := by rw [gr_nA, if_pos ⟨rfl, rfl⟩]
  have k3 : gk (nA σ2 106 (U2 P.1 fa) c 12) (gx σ2) = 106 := by rw [gk_nA, if_pos rfl]
  have n3 : gn (nA σ2 106 (U2 P.1 fa) c 12) (gx σ2) = U2 P.1 fa := by rw [gn_nA, if_pos rfl]
  have e63 : gi (nA σ2 106 (U2 P.1 fa) c 12) x0 6 = nI (fa + 2) := by rw [gi_nA, if_neg (by omega)]; exact e6
  have e03 : gi (nA σ2 106 (U2 P.1 fa) c 12) c 0 = nI fl := by rw [gi_nA, if_neg (by omega)]; exact e0
  have c3 : gc (nA σ2 106 (U2 P.1 fa) c 12) = gc σ2 - 1 := gc_nA
  have s3 : gs (nA σ2 106 (U2 P.1 fa) c 12) = gs σ2 - U2 P.1 fa := gs_nA
  have x3 : gx (nA σ2 106 (U2 P.1 fa) c 12) = gx σ2 + 1 := gx_nA
  refine xC.trw f3 (W2 := fun b j => wx x0 b j ∨ b = gx σ2) ?_ (fun _ _ _ z => z) (fun a j ha z => z.elim Or.inl (fun z => by omega))
  generalize nA σ2 106 (U2 P.1 fa) c 12 = σ3 at *
  have := x_fd_loop (C := C) (S := S) (ff := gx σ2) (nn := U2 P.1 fa) (fl := fl) (q := q) (fin := fin) g hfu hu (fun z => by have := hNx _ z; omega) (by omega) (by omega) (U2 P.1 fa) 0 fu (fa + 2) (fun _ => (0, fun _ => 0)) σ3 (by omega) (by omega) Q3 (fun a z => by have := hNx a z; omega) r3 k3 n3 e03 e63 (fun j hj => by omega) hq (by omega) (by omega)
  refine this.mo (fun _ _ _ z => z) (Nat.le_refl _) (Nat.le_refl _) (fun M' σ' _ w fq => ⟨w.1, w.2.1, ⟨gx σ2, (fq.gr (by omega) (fun z => ?_)).trans r3, fq.gk Q3.1 k3 (by decide), (fq.gn (by omega)).trans n3, w.2.2.1⟩, w.2.2.2.1, w.2.2.2.2⟩)
  rcases z with z | z
  · exact ncx z.1
  · omega
end Fld3
