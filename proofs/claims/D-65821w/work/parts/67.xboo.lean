/-! BootstrapMethods: the component -/
section XBoo
set_option maxRecDepth 100000
/-- where the bootstrap method i lies -/
def bqS (F : Nat → Int32) (p : Nat) : Nat → Nat
  | 0 => p + 2
  | i + 1 => bqS F p i + 4 + 2 * U2 F (bqS F p i + 2)
theorem bsL_gt {F : Nat → Int32} {e : Nat} : ∀ k q, e < q → bsL F e k q ≠ some e := by
  intro k q h z
  cases k with
  | zero =>
    cases z
    omega
  | succ k =>
    unfold bsL at z
    rw [if_pos (by omega)] at z
    cases z
theorem bsL_su {F : Nat → Int32} {e k q r : Nat} (h : bsL F e (k + 1) q = some r) : q + 4 + 2 * U2 F (q + 2) ≤ e ∧ bsL F e k (q + 4 + 2 * U2 F (q + 2)) = some r := by
  unfold bsL at h
  split at h
  · cases h
  · exact ⟨by omega, h⟩
/-- the rows that the component keeps -/
def xBt (F : Nat → Int32) (p i ba : Nat) (σ : GS) : Prop := ∃ r, gr σ ba i = some r ∧ gk σ r = 100 ∧ gn σ r = U2 F (bqS F p i + 2) + 1 ∧ gi σ r 0 = nI (U2 F (bqS F p i)) ∧ ∀ j, 1 ≤ j → j < U2 F (bqS F p i + 2) + 1 → gi σ r j = nI (U2 F (bqS F p i + 2 + 2 * j))
theorem xBt.fr {F : Nat → Int32} {p i ba : Nat} {σ σ' : GS} {W : Nat → Nat → Prop} (h : xBt F p i ba σ) (f : Fq W σ σ') (hw : WF σ) (hb : gk σ ba = 108) (h1 : ¬ W ba i) (h2 : ∀ a j, gk σ a = 100 → ¬ W a j) : xBt F p i ba σ' := by
  obtain ⟨r, a1, a2, a3, a4, a5⟩ := h
  have lb : ba < gx σ := hw.lt (by rw [hb]; decide)
  have lr : r < gx σ := hw.lt (by rw [a2]; decide)
  exact ⟨r, (f.gr lb h1).trans a1, f.gk hw a2 (by decide), (f.gn lr).trans a3, (f.gi lr (h2 r _ a2)).trans a4, fun j j1 j2 => (f.gi lr (h2 r _ a2)).trans (a5 j j1 j2)⟩
variable {P : PD} {x0 c lo hd fa fu : Nat} {N : Nat → Prop} {σ : GS}
theorem x_b173 {k114 : GS → Nat → Nat → Int32 → Int32 → Int32 → Int32 → Option (Int32 × GS)} {pl q k ba row args : Nat} {x6 : Int32} (g : PG P) (hq : q + 4 + 2 * args ≤ P.2.1) (ha : args < 65536) (hNr : ¬ N row) (hrx : row ≠ x0) : ∀ d j f σ, j + d = args + 1 → 1 ≤ j → d < f → xQ P x0 c lo N hd fa σ → gk σ row = 100 → gn σ row = args + 1 → gr σ c 21 = some ba → gk σ ba = 108 → k < gn σ ba → gn σ ba < 65536 →
    ∃ σ', (Fq (fun a _ => a = row) σ σ' ∧ gc σ' = gc σ ∧ gs σ' = gs σ ∧ gx σ' = gx σ ∧ Z8 x0 σ') ∧ (∀ i, i < j → gi σ' row i = gi σ row i) ∧ (∀ i, j ≤ i → i < args + 1 → ldP P (U2 P.1 (q + 2 + 2 * i)) → (∀ l, j ≤ l → l < i → ldP P (U2 P.1 (q + 2 + 2 * l))) → gi σ' row i = nI (U2 P.1 (q + 2 + 2 * i))) ∧ x_boots_173L fu k114 f σ x0 c (nI pl) x6 (nI q) (nI k) (nI args) row (nI j) = ci (∀ i, j ≤ i → i < args + 1 → ldP P (U2 P.1 (q + 2 + 2 * i))) (k114 (gpr σ' ba k (some row)) x0 c (nI pl) x6 (nI (q + 4 + 2 * args)) (nI (k + 1))) (some (0, xwr σ' x0 38 pl)) := by
  have hn := g.1
  intro d
  induction d with
  | zero =>
    intro j f σ hj h1 hf hQ kr nr hb kb nb nb2
    obtain ⟨f, rfl⟩ : ∃ z9, f = z9 + 1 := ⟨f - 1, by omega⟩
    refine ⟨σ, ⟨Fq.rf, rfl, rfl, rfl, hQ.2.2.2⟩, fun _ _ => rfl, fun i i1 i2 => by omega, ?_⟩
    show x_boots_173 fu k114 (x_boots_173L fu k114 f) σ x0 c (nI pl) x6 (nI q) (nI k) (nI args) row (nI j) = _
    unfold x_boots_173
    rw [if_pos (nI_lt (by omega) (by omega)), ckT_ok hQ.2.1.1.1.1, hb, ckK_ok kb, ckT_ok kr, ckIn_n nb (by omega), nx_eq, nx_eq, nx_eq, nI_1, nI_clamp (by omega), ci_t (fun i i1 i2 => by omega), show (2 : Int32) * nI args = nI (2 * args) from pk_mul 2 args, nI_add' 4, nI_add, show q + (4 + 2 * args) = q + 4 + 2 * args by omega]
  | succ d ih =>
    intro j f σ hj h1 hf hQ kr nr hb kb nb nb2
    obtain ⟨f, rfl⟩ : ∃ z9, f = z9 + 1 := ⟨f - 1, by omega⟩
    have hu := U2_lt P.1 (q + 2 + 2 * j)
    have f1 : Fq (fun a (_ : Nat) => a = row) σ (gpi σ row j (nI (U2 P.1 (q + 2 + 2 * j)))) := Fq.pi rfl
    have h81 : Z8 x0 (gpi σ row j (nI (U2 P.1 (q + 2 + 2 * j)))) := Z8.pi (fun z => hrx z.symm) hQ.2.2.2
    have Q1 : xQ P x0 c lo N hd fa (gpi σ row j (nI (U2 P.1 (q + 2 + 2 * j)))) := hQ.fr f1 (fun a i _ z => by
      have z : a = row := z
      rw [z]
      exact Or.inr (Or.inr ⟨hNr, hrx⟩)) h81
    have st : x_boots_173L fu k114 (f + 1) σ x0 c (nI pl) x6 (nI q) (nI k) (nI args) row (nI j) = ci (ldP P (U2 P.1 (q + 2 + 2 * j))) (x_boots_173L fu k114 f (gpi σ row j (nI (U2 P.1 (q + 2 + 2 * j)))) x0 c (nI pl) x6 (nI q) (nI k) (nI args) row (nI (j + 1))) (some (0, xwr (gpi σ row j (nI (U2 P.1 (q + 2 + 2 * j)))) x0 38 pl)) := by
      show x_boots_173 fu k114 (x_boots_173L fu k114 f) σ x0 c (nI pl) x6 (nI q) (nI k) (nI args) row (nI j) = _
      unfold x_boots_173
      rw [if_neg (nI_nlt (by omega) (by omega)), ckT_ok hQ.2.1.2.1.1, nI_2, show (2 : Int32) * nI j = nI (2 * j) from pk_mul 2 j, nI_add, x_u2_ok hQ.2.1.2.1 (by omega), Option.bind_some, ckT_ok kr, nr, ckIn_n (by omega) (by omega), nx_eq, nI_clamp (by omega), gn_gpi, nr, ckIn_n (by omega) (by omega), gi_gpi_eq, x_isLoadable_ok Q1.2.1.1 g hu, Option.bind_some, show (38 : Int32) = nI 38 from rfl, x_wrong_ok Q1.2.1.2.1.1 h81, Option.bind_some, ckN_0, nx_eq, nI_1]
      by_cases q1 : ldP P (U2 P.1 (q + 2 + 2 * j))
      · rw [ib_t q1, ci_t q1]
      · rw [ib_f q1, ci_f q1]
    by_cases q1 : ldP P (U2 P.1 (q + 2 + 2 * j))
    · obtain ⟨σ', ⟨a1, a2, a3, a4, a5⟩, b1, b2, b3⟩ := ih (j + 1) f (gpi σ row j (nI (U2 P.1 (q + 2 + 2 * j)))) (by omega) (by omega) (by omega) Q1 (gk_gpi.trans kr) (gn_gpi.trans nr) (gr_gpi.trans hb) (gk_gpi.trans kb) (by rw [gn_gpi]; exact nb) (by rw [gn_gpi]; exact nb2)
      refine ⟨σ', ⟨f1.tr a1, a2.trans gc_gpi, a3.trans gs_gpi, a4.trans gx_gpi, a5⟩, fun i hi => ?_, fun i i1 i2 i3 i4 => ?_, ?_⟩
      · rw [b1 i (by omega), gi_gpi_ne (Or.inr (by omega))]
      · rcases Nat.lt_or_ge j i with z | z
        · exact b2 i z i2 i3 (fun l l1 l2 => i4 l (by omega) l2)
        · obtain rfl : i = j := by omega
          rw [b1 i (by omega), gi_gpi_eq]
      · rw [st, ci_t q1, b3]
        rw [show (∀ i, j ≤ i → i < args + 1 → ldP P (U2 P.1 (q + 2 + 2 * i))) = (∀ i, j + 1 ≤ i → i < args + 1 → ldP P (U2 P.1 (q + 2 + 2 * i))) from propext ⟨fun w i i1 i2 => w i (by omega) i2, fun w i i1 i2 => by
          rcases Nat.lt_or_ge j i with z | z
          · exact w i z i2
          · rw [show i = j by omega]
            exact q1⟩]
    · refine ⟨gpi σ row j (nI (U2 P.1 (q + 2 + 2 * j))), ⟨f1, gc_gpi, gs_gpi, gx_gpi, h81⟩, fun i hi => gi_gpi_ne (Or.inr (by omega)), fun i i1 i2 i3 i4 => ?_, ?_⟩
      · rcases Nat.lt_or_ge j i with z | z
        · exact absurd (i4 j (Nat.le_refl _) z) q1
        · obtain rfl : i = j := by omega
          exact absurd i3 q1
      · rw [st, ci_f q1, ci_f (fun w => q1 (w j (Nat.le_refl _) (by omega)))]
theorem x_b114 {C S e pl p many ba : Nat} (g : PG P) (hfu : 131072 < fu) (he : e ≤ P.2.1) (hmm : many < 65536) (hNb : ¬ N ba) (hbx : ba ≠ x0) (hbc : ba ≠ c) : ∀ d k f σ, k + d = many → d < f → bsL P.1 e d (bqS P.1 p k) = some e → xQ P x0 c lo N hd fa σ → (∀ a, N a → a < gx σ) → gr σ c 21 = some ba → gk σ ba = 108 → gn σ ba = many → (∀ i, i < k → xBt P.1 p i ba σ) → C + (e - bqS P.1 p k) ≤ gc σ → S + (e - bqS P.1 p k) ≤ gs σ →
    xC x0 (fun a j => wx x0 a j ∨ a = ba) C S (ci (bsT P d (bqS P.1 p k)) (.ok ()) (.error (38, pl))) (fun _ σ' => Z8 x0 σ' ∧ (∀ i, i < many → xBt P.1 p i ba σ') ∧ C ≤ gc σ' ∧ S ≤ gs σ') σ (x_boots_114L fu f σ x0 c (nI pl) (nI many) (nI (bqS P.1 p k)) (nI k)) := by
  have hn := g.1
  intro d
  induction d with
  | zero =>
    intro k f σ hk hf hb hQ hNx h21 kb nb hv hC hS
    obtain ⟨f, rfl⟩ : ∃ z9, f = z9 + 1 := ⟨f - 1, by omega⟩
    show xC _ _ _ _ _ _ _ (x_boots_114 fu (x_boots_114L fu f) σ x0 c (nI pl) (nI many) (nI (bqS P.1 p k)) (nI k))
    unfold x_boots_114
    rw [if_pos (nI_le (by omega) (by omega)), ci_t (show bsT P 0 (bqS P.1 p k) from trivial)]
    exact xC.ok ⟨hQ.2.2.2, fun i hi => hv i (by omega), by omega, by omega⟩
  | succ d ih =>
    intro k f σ hk hf hb hQ hNx h21 kb nb hv hC hS
    obtain ⟨f, rfl⟩ : ∃ z9, f = z9 + 1 := ⟨f - 1, by omega⟩
    show xC _ _ _ _ _ _ _ (x_boots_114 fu (x_boots_114L fu f) σ x0 c (nI pl) (nI many) (nI (bqS P.1 p k)) (nI k))
    obtain ⟨hb1, hb2⟩ := bsL_su hb
    have hbq : bqS P.1 p (k + 1) = bqS P.1 p k + 4 + 2 * U2 P.1 (bqS P.1 p k + 2) := rfl
    have hT0 : bsT P (d + 1) (bqS P.1 p k) = (tgP P (U2 P.1 (bqS P.1 p k)) = 15 ∧ (∀ j, 1 ≤ j → j < U2 P.1 (bqS P.1 p k + 2) + 1 → ldP P (U2 P.1 (bqS P.1 p k + 2 + 2 * j))) ∧ bsT P d (bqS P.1 p (k + 1))) := rfl
    rw [← hbq] at hb2
    generalize hqk : bqS P.1 p k = q at *
    have hF := hQ.2.1.2.1
    have lx : x0 < gx σ := hQ.1.lt (by rw [hF.1]; decide)
    have lc : c < gx σ := hQ.1.lt (by rw [hQ.2.1.1.1.1]; decide)
    have lb : ba < gx σ := hQ.1.lt (by rw [kb]; decide)
    have hu := U2_lt P.1 q
    have hu2 := U2_lt P.1 (q + 2)
    generalize hargs : U2 P.1 (q + 2) = args at *
    unfold x_boots_114
    rw [if_neg (nI_ge (by omega) (by omega)), ckT_ok hF.1, nI_2, x_u2_ok hF (by omega), Option.bind_some, hargs, nI_1, ckL_ok (by omega), nI_clamp (by omega), ckC_ok ⟨by omega, by omega⟩, nx_eq, nx_eq]
    have G1 : Fq (fun _ _ => False) σ (gnew σ 100 (args + 1) (args + 1)) := Fq.new
    have h81 : Z8 x0 (gnew σ 100 (args + 1) (args + 1)) := Z8.new (by omega) hQ.2.2.2
    have Q1 := hQ.fr G1 (fun a j _ z => z.elim) h81
    rw [ckT_ok Q1.2.1.2.1.1, x_u2_ok Q1.2.1.2.1 (by omega), Option.bind_some, gn_gnew, if_pos rfl, show (0 : Int32) = nI 0 from rfl, ckIn_n (by omega) (by omega), nx_eq, nI_clamp (by omega), gn_gpi, gn_gnew, if_pos rfl, ckIn_n (by omega) (by omega), gi_gpi_eq]
    have kr1 : gk (gnew σ 100 (args + 1) (args + 1)) (gx σ) = 100 := by rw [gk_gnew, if_pos rfl]
    have nr1 : gn (gnew σ 100 (args + 1) (args + 1)) (gx σ) = args + 1 := by rw [gn_gnew, if_pos rfl]
    have c1 : gc (gnew σ 100 (args + 1) (args + 1)) = gc σ - 1 := gc_gnew
    have s1 : gs (gnew σ 100 (args + 1) (args + 1)) = gs σ - (args + 1) := gs_gnew
    have x1 : gx (gnew σ 100 (args + 1) (args + 1)) = gx σ + 1 := gx_gnew
    generalize gnew σ 100 (args + 1) (args + 1) = σ1 at *
    have G2 : Fq (fun _ _ => False) σ (gpi σ1 (gx σ) 0 (nI (U2 P.1 q))) := G1.piN (Nat.le_refl _)
    have h82 : Z8 x0 (gpi σ1 (gx σ) 0 (nI (U2 P.1 q))) := Z8.pi (by omega) h81
    have Q2 := hQ.fr G2 (fun a j _ z => z.elim) h82
    have e0 : gi (gpi σ1 (gx σ) 0 (nI (U2 P.1 q))) (gx σ) 0 = nI (U2 P.1 q) := gi_gpi_eq
    have kr2 : gk (gpi σ1 (gx σ) 0 (nI (U2 P.1 q))) (gx σ) = 100 := gk_gpi.trans kr1
    have nr2 : gn (gpi σ1 (gx σ) 0 (nI (U2 P.1 q))) (gx σ) = args + 1 := gn_gpi.trans nr1
    have c2 : gc (gpi σ1 (gx σ) 0 (nI (U2 P.1 q))) = gc σ1 := gc_gpi
    have s2 : gs (gpi σ1 (gx σ) 0 (nI (U2 P.1 q))) = gs σ1 := gs_gpi
    have x2 : gx (gpi σ1 (gx σ) 0 (nI (U2 P.1 q))) = gx σ1 := gx_gpi
    have b2 : gr (gpi σ1 (gx σ) 0 (nI (U2 P.1 q))) c 21 = some ba := (G2.gr lc id).trans h21
    have kb2 : gk (gpi σ1 (gx σ) 0 (nI (U2 P.1 q))) ba = 108 := G2.gk hQ.1 kb (by decide)
    have nb2 : gn (gpi σ1 (gx σ) 0 (nI (U2 P.1 q))) ba = many := (G2.gn lb).trans nb
    generalize gpi σ1 (gx σ) 0 (nI (U2 P.1 q)) = σ2 at *
    have tr : ∀ {σ3 : GS}, Fq (fun _ _ => False) σ σ3 → Fq (fun a j => wx x0 a j ∨ a = ba) σ σ3 := fun w => w.mo (fun _ _ _ z => z.elim)
    rw [show nI 0 = (0 : Int32) from rfl, show (15 : Int32) = nI 15 from rfl, x_isTag_ok Q2.2.1.1 g hu (by omega) (by omega), Option.bind_some, hT0]
    by_cases t15 : tgP P (U2 P.1 q) = 15
    case neg =>
      rw [ib_f t15, ci_f (fun w => t15 w.1), show (38 : Int32) = nI 38 from rfl, x_wrong_ok Q2.2.1.2.1.1 h82, Option.bind_some, ckN_0]
      exact ⟨_, rfl, xwr_ok, (tr G2).tr (Fq.wr (fun _ _ z => Or.inl z)), by rw [gc_xwr]; omega, by rw [gs_xwr]; omega⟩
    rw [ib_t t15]
    obtain ⟨σ', ⟨y1, y2, y3, y4, y5⟩, y6, y7, y8⟩ := x_b173 (fu := fu) (k114 := x_boots_114L fu f) (pl := pl) (q := q) (k := k) (ba := ba) (row := gx σ) (args := args) (x6 := nI many) g (by omega) hu2 (fun z => by have := hNx _ z; omega) (by omega) args 1 fu σ2 (by omega) (by omega) (by omega) Q2 kr2 nr2 b2 kb2 (by omega) (by omega)
    rw [show x_boots_173L fu (x_boots_114L fu f) fu σ2 x0 c (nI pl) (nI many) (nI q) (nI k) (nI args) (gx σ) (1 : Int32) = _ from y8]
    have G' : Fq (fun _ _ => False) σ σ' := G2.trw y1 (fun _ _ _ z => z) (fun a j ha z => by have z : a = gx σ := z; omega)
    by_cases hld : ∀ j, 1 ≤ j → j < args + 1 → ldP P (U2 P.1 (q + 2 + 2 * j))
    case neg =>
      rw [ci_f hld, ci_f (fun w => hld w.2.1)]
      exact ⟨_, rfl, xwr_ok, (tr G').tr (Fq.wr (fun _ _ z => Or.inl z)), by rw [gc_xwr]; omega, by rw [gs_xwr]; omega⟩
    rw [ci_t hld]
    have G3 : Fq (fun a j => a = ba ∧ j = k) σ (gpr σ' ba k (some (gx σ))) := (G'.mo (fun _ _ _ z => z.elim)).tr (Fq.pr ⟨rfl, rfl⟩)
    have h83 : Z8 x0 (gpr σ' ba k (some (gx σ))) := y5.pr
    have Q3 := hQ.fr G3 (fun a j _ z => by
      rw [z.1]
      exact Or.inr (Or.inr ⟨hNb, hbx⟩)) h83
    have c3 : gc (gpr σ' ba k (some (gx σ))) = gc σ' := gc_gpr
    have s3 : gs (gpr σ' ba k (some (gx σ))) = gs σ' := gs_gpr
    have x3 : gx (gpr σ' ba k (some (gx σ))) = gx σ' := gx_gpr
    have r3 : gr (gpr σ' ba k (some (gx σ))) ba k = some (gx σ) := gr_gpr_eq
    have k3 : gk (gpr σ' ba k (some (gx σ))) (gx σ) = 100 := gk_gpr.trans (y1.gk Q2.1 kr2 (by decide))
    have n3 : gn (gpr σ' ba k (some (gx σ))) (gx σ) = args + 1 := gn_gpr.trans ((y1.gn (by omega)).trans nr2)
    have i30 : gi (gpr σ' ba k (some (gx σ))) (gx σ) 0 = nI (U2 P.1 q) := gi_gpr.trans ((y6 0 (by omega)).trans e0)
    have i3j : ∀ j, 1 ≤ j → j < args + 1 → gi (gpr σ' ba k (some (gx σ))) (gx σ) j = nI (U2 P.1 (q + 2 + 2 * j)) := fun j j1 j2 => gi_gpr.trans (y7 j j1 j2 (hld j j1 j2) (fun l l1 l2 => hld l l1 (by omega)))
    generalize gpr σ' ba k (some (gx σ)) = σ3 at *
    have hbk : xBt P.1 p k ba σ3 := ⟨gx σ, r3, k3, by rw [hqk, hargs]; exact n3, by rw [hqk]; exact i30, fun j j1 j2 => by
      rw [hqk, hargs] at j2
      rw [hqk]
      exact i3j j j1 j2⟩
    have := ih (k + 1) f σ3 (by omega) (by omega) hb2 Q3 (fun a z => by have := hNx a z; omega) ((G3.gr lc (fun z => hbc z.1.symm)).trans h21) (G3.gk hQ.1 kb (by decide)) ((G3.gn lb).trans nb) (fun i hi => ?_) (by rw [hbq]; omega) (by rw [hbq]; omega)
    · rw [hbq] at this
      rw [show (tgP P (U2 P.1 q) = 15 ∧ (∀ j, 1 ≤ j → j < args + 1 → ldP P (U2 P.1 (q + 2 + 2 * j))) ∧ bsT P d (bqS P.1 p (k + 1))) = bsT P d (bqS P.1 p (k + 1)) from propext ⟨fun w => w.2.2, fun w => ⟨t15, hld, w⟩⟩, hbq]
      exact xC.trw G3 this (fun a j _ z => Or.inr z.1) (fun a j _ z => z)
    · rcases Nat.lt_or_ge i k with z | z
      · exact (hv i z).fr G3 hQ.1 kb (fun w => by have := w.2; omega) (fun a j ha w => by rw [w.1, kb] at ha; exact absurd ha (by decide))
      · rw [show i = k by omega]
        exact hbk
theorem x_b35 {e pl many p : Nat} (h : xQ P x0 c lo N hd fa σ) (g : PG P) (he : e ≤ P.2.1) (hmm : many < 65536) {R : GS → Option (Int32 × GS)} (hR : ∀ f, x_boots_35L fu (f + 1) σ x0 c (nI pl) (nI p) (nI e) (nI many) (nI e) (nI many) = R σ) : ∀ k f q i, k < f → i + k = many → q ≤ 200000 → x_boots_35L fu f σ x0 c (nI pl) (nI p) (nI e) (nI many) (nI q) (nI i) = if bsL P.1 e k q = some e then R σ else some (0, xwr σ x0 30 pl) := by
  have hn := g.1
  have hF := h.2.1.2.1
  intro k
  induction k with
  | zero =>
    intro f q i hf hi hq
    obtain ⟨f, rfl⟩ : ∃ z9, f = z9 + 1 := ⟨f - 1, by omega⟩
    obtain rfl : i = many := by omega
    by_cases z : q = e
    · rw [z, hR, if_pos (show bsL P.1 e 0 e = some e from rfl)]
    · show x_boots_35 fu (x_boots_35L fu f) σ x0 c (nI pl) (nI p) (nI e) (nI i) (nI q) (nI i) = _
      unfold x_boots_35 bsL
      rw [if_pos (nI_le (by omega) (by omega)), if_neg (fun w => z ((nI_eq (by omega) (by omega)).mp w)), if_neg (fun w => z (Option.some.inj w)), ckT_ok hF.1, show (30 : Int32) = nI 30 from rfl, x_wrong_ok hF.1 h.2.2.2, Option.bind_some, ckN_0]
  | succ k ih =>
    intro f q i hf hi hq
    obtain ⟨f, rfl⟩ : ∃ z9, f = z9 + 1 := ⟨f - 1, by omega⟩
    show x_boots_35 fu (x_boots_35L fu f) σ x0 c (nI pl) (nI p) (nI e) (nI many) (nI q) (nI i) = _
    unfold x_boots_35
    have hu := U2_lt P.1 (q + 2)
    rw [if_neg (nI_ge (by omega) (by omega)), nI_4]
    by_cases z : e < q + 4
    · rw [if_neg (nI_ge z (by omega)), ckT_ok hF.1, show (30 : Int32) = nI 30 from rfl, x_wrong_ok hF.1 h.2.2.2, Option.bind_some, ckN_0]
      unfold bsL
      rw [if_pos (Or.inl z), if_neg (by simp)]
    · rw [if_pos (nI_le (by omega) (by omega)), ckT_ok hF.1, nI_2, x_u2_ok hF (by omega), Option.bind_some, nx_eq, nx_eq, nI_1, show (2 : Int32) * nI (U2 P.1 (q + 2)) = nI (2 * U2 P.1 (q + 2)) from pk_mul 2 _, nI_add' 4, nI_add, show q + (4 + 2 * U2 P.1 (q + 2)) = q + 4 + 2 * U2 P.1 (q + 2) by omega, ih f (q + 4 + 2 * U2 P.1 (q + 2)) (i + 1) (by omega) (by omega) (by omega)]
      by_cases z2 : e < q + 4 + 2 * U2 P.1 (q + 2)
      · rw [if_neg (bsL_gt _ _ z2)]
        unfold bsL
        rw [if_pos (Or.inr z2), if_neg (by simp)]
      · have e1 : bsL P.1 e (k + 1) q = bsL P.1 e k (q + 4 + 2 * U2 P.1 (q + 2)) := by
          show (if e < q + 4 ∨ e < q + 4 + 2 * U2 P.1 (q + 2) then none else bsL P.1 e k (q + 4 + 2 * U2 P.1 (q + 2))) = _
          rw [if_neg (by omega)]
        rw [e1]
/-- what the component keeps of BootstrapMethods, which lies at p -/
def xBo (F : Nat → Int32) (c p : Nat) (σ : GS) : Prop := ∃ ba, gr σ c 21 = some ba ∧ gk σ ba = 108 ∧ gn σ ba = U2 F p ∧ ∀ i, i < U2 F p → xBt F p i ba σ
theorem x_boots_ok {C S pl p len : Nat} (hQ : xQ P x0 c lo N hd fa σ) (g : PG P) (hfu : 131072 < fu) (hp : p + len ≤ P.2.1) (hNx : ∀ a, N a → a < gx σ) (hC : C + len + 1 ≤ gc σ) (hS : S + 2 * len ≤ gs σ) :
    xC x0 (fun a j => wx x0 a j ∨ (a = c ∧ j = 21)) C S (booS P pl p len) (fun _ σ' => Z8 x0 σ' ∧ xBo P.1 c p σ' ∧ C ≤ gc σ' ∧ S ≤ gs σ') σ (x_boots fu σ x0 c (nI pl) (nI p) (nI len)) := by
  have hn := g.1
  have hF := hQ.2.1.2.1
  have hu := U2_lt P.1 p
  have hc := hQ.2.1.1.1.1
  have lx : x0 < gx σ := hQ.1.lt (by rw [hF.1]; decide)
  have lc : c < gx σ := hQ.1.lt (by rw [hc]; decide)
  have ncx : c ≠ x0 := fun z => by have := hF.1; rw [← z, hc] at this; exact absurd this (by decide)
  have ew : ((x_wrong σ x0 (30 : Int32) (nI pl)).bind fun r2 => ckN .boolean r2.1 (some (r2.1, r2.2))) = some (0, xwr σ x0 30 pl) := by rw [show (30 : Int32) = nI 30 from rfl, x_wrong_ok hF.1 hQ.2.2.2, Option.bind_some, ckN_0]
  unfold x_boots x_boots_0 booS
  rw [nx_eq, nI_add, ew]
  by_cases h1 : len < 2
  · rw [if_neg (show ¬ (2 : Int32) ≤ nI len from nI_ge (b := 2) h1 (by omega)), if_pos h1, ckT_ok hF.1]
    exact xC.er (fun _ _ z => Or.inl z) (by omega) (by omega)
  rw [if_pos (show (2 : Int32) ≤ nI len from nI_le (a := 2) (by omega) (by omega)), if_neg h1, ckT_ok hF.1, x_u2_ok hF (by omega), Option.bind_some, nx_eq, nI_2]
  by_cases hmy : U2 P.1 p ≤ len
  case neg =>
    -- too many to fit: the rows cannot end at the end
    have no : bsL P.1 (p + len) (U2 P.1 p) (p + 2) ≠ some (p + len) := by
      have key : ∀ k q, bsL P.1 (p + len) k q = some (p + len) → q + 4 * k ≤ p + len := by
        intro k
        induction k with
        | zero => intro q z; cases z; omega
        | succ k ih =>
          intro q z
          have := bsL_su z
          have := ih _ this.2
          omega
      intro z
      have := key _ _ z
      omega
    have := x_b35 (fu := fu) (pl := pl) (p := p) (many := U2 P.1 p) hQ g hp hu (R := fun σ => x_boots_35L fu 1 σ x0 c (nI pl) (nI p) (nI (p + len)) (nI (U2 P.1 p)) (nI (p + len)) (nI (U2 P.1 p))) (fun f => by
      show x_boots_35 fu (x_boots_35L fu f) σ x0 c (nI pl) (nI p) (nI (p + len)) (nI (U2 P.1 p)) (nI (p + len)) (nI (U2 P.1 p)) = x_boots_35 fu (x_boots_35L fu 0) σ x0 c (nI pl) (nI p) (nI (p + len)) (nI (U2 P.1 p)) (nI (p + len)) (nI (U2 P.1 p))
      unfold x_boots_35
      rw [if_pos (nI_le (by omega) (by omega)), if_pos rfl, if_pos (nI_le (by omega) (by omega))]) (U2 P.1 p) fu (p + 2) 0 (by omega) (by omega) (by omega)
    rw [show x_boots_35L fu fu σ x0 c (nI pl) (nI p) (nI (p + len)) (nI (U2 P.1 p)) (nI (p + 2)) (0 : Int32) = _ from this, if_neg no, if_neg no]
    exact xC.er (fun _ _ z => Or.inl z) (by omega) (by omega)
  have hend : ∀ f, x_boots_35L fu (f + 1) σ x0 c (nI pl) (nI p) (nI (p + len)) (nI (U2 P.1 p)) (nI (p + len)) (nI (U2 P.1 p)) = x_boots_114L fu fu (nA σ 108 (U2 P.1 p) c 21) x0 c (nI pl) (nI (U2 P.1 p)) (nI (p + 2)) (0 : Int32) := by
    intro f
    show x_boots_35 fu (x_boots_35L fu f) σ x0 c (nI pl) (nI p) (nI (p + len)) (nI (U2 P.1 p)) (nI (p + len)) (nI (U2 P.1 p)) = _
    unfold x_boots_35
    rw [if_pos (nI_le (by omega) (by omega)), if_pos rfl, nA_step (by omega) ⟨by omega, by omega⟩ hc (by omega), nx_eq, nI_2]
  have := x_b35 (fu := fu) (pl := pl) (p := p) (many := U2 P.1 p) hQ g hp hu (R := fun σ => x_boots_114L fu fu (nA σ 108 (U2 P.1 p) c 21) x0 c (nI pl) (nI (U2 P.1 p)) (nI (p + 2)) (0 : Int32)) hend (U2 P.1 p) fu (p + 2) 0 (by omega) (by omega) (by omega)
  rw [show x_boots_35L fu fu σ x0 c (nI pl) (nI p) (nI (p + len)) (nI (U2 P.1 p)) (nI (p + 2)) (0 : Int32) = _ from this]
  by_cases h2 : bsL P.1 (p + len) (U2 P.1 p) (p + 2) = some (p + len)
  case neg =>
    rw [if_neg h2, if_neg h2]
    exact xC.er (fun _ _ z => Or.inl z) (by omega) (by omega)
  rw [if_pos h2, if_pos h2]
  have f1 : Fq (fun a j => wx x0 a j ∨ (a = c ∧ j = 21)) σ (nA σ 108 (U2 P.1 p) c 21) := fq_nA (Or.inr ⟨rfl, rfl⟩)
  have h81 : Z8 x0 (nA σ 108 (U2 P.1 p) c 21) := Z8.nA (by omega) hQ.2.2.2
  have Q1 := hQ.fr f1 (fun a j _ z => by
    rcases z with z | z
    · exact Or.inl z
    · exact Or.inr (Or.inl ⟨z.1, by have := z.2; omega⟩)) h81
  have r1 : gr (nA σ 108 (U2 P.1 p) c 21) c 21 = some (gx σ) := by rw [gr_nA, if_pos ⟨rfl, rfl⟩]
  have k1 : gk (nA σ 108 (U2 P.1 p) c 21) (gx σ) = 108 := by rw [gk_nA, if_pos rfl]
  have n1 : gn (nA σ 108 (U2 P.1 p) c 21) (gx σ) = U2 P.1 p := by rw [gn_nA, if_pos rfl]
  have c1 : gc (nA σ 108 (U2 P.1 p) c 21) = gc σ - 1 := gc_nA
  have s1 : gs (nA σ 108 (U2 P.1 p) c 21) = gs σ - U2 P.1 p := gs_nA
  have x1 : gx (nA σ 108 (U2 P.1 p) c 21) = gx σ + 1 := gx_nA
  refine xC.trw f1 (W2 := fun a j => wx x0 a j ∨ a = gx σ) ?_ (fun _ _ _ z => z) (fun a j ha z => z.elim Or.inl (fun z => by omega))
  show xC x0 _ C S _ _ (nA σ 108 (U2 P.1 p) c 21) (x_boots_114L fu fu (nA σ 108 (U2 P.1 p) c 21) x0 c (nI pl) (nI (U2 P.1 p)) (nI (p + 2)) (0 : Int32))
  generalize nA σ 108 (U2 P.1 p) c 21 = σ1 at *
  have h0 : bqS P.1 p 0 = p + 2 := rfl
  have := x_b114 (C := C) (S := S) (pl := pl) (p := p) (ba := gx σ) g hfu hp hu (fun z => by have := hNx _ z; omega) (by omega) (by omega) (U2 P.1 p) 0 fu σ1 (by omega) (by omega) (by rw [h0]; exact h2) Q1 (fun a z => by have := hNx a z; omega) r1 k1 n1 (fun i hi => by omega) (by rw [h0]; omega) (by rw [h0]; omega)
  rw [h0] at this
  refine this.mo (fun _ _ _ z => z) (Nat.le_refl _) (Nat.le_refl _) (fun _ σ' _ w fq => ⟨w.1, ⟨gx σ, (fq.gr (by omega) (fun z => ?_)).trans r1, fq.gk Q1.1 k1 (by decide), (fq.gn (by omega)).trans n1, w.2.1⟩, w.2.2.1, w.2.2.2⟩)
  rcases z with z | z
  · exact ncx z.1
  · omega
end XBoo
