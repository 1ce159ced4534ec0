/-! the Code attribute: the component, whole -/
section XCode2
set_option maxRecDepth 100000
variable {P : PD} {x0 c lo hd fa fu m : Nat} {N : Nat → Prop} {σ : GS}
def rwX (F : Nat → Int32) (q rows ra : Nat) (σ : GS) : Prop := ∀ i, i < rows → ∀ j, j < 4 → gi σ ra (4 * i + j) = nI (U2 F (q + 2 + 8 * i + 2 * j))
theorem x_c215 {C S pl p sz q rows tail ca e : Nat} (g : PG P) (hfu : 131072 < fu) (hsz : sz < 65536) (hr : rows < 65536) (hps : p + 8 + sz ≤ P.2.1) (hq : q + 2 + 8 * rows ≤ P.2.1) (htl : tail + 2 ≤ P.2.1) (hsk : skA P.1 P.2.1 (U2 P.1 tail) (tail + 2) = .ok e) (hNc : ¬ N ca) (hNm : ¬ N m) (hcx : ca ≠ x0) (hmx : m ≠ x0) (hcm : ca ≠ m) (hmc : m ≠ c) : ∀ d k f σ, k + d = sz → d < f → xQ P x0 c lo N hd fa σ → (∀ a, N a → a < gx σ) → gk σ m = 4 → gr σ m 11 = some ca → gk σ ca = 101 → gn σ ca = sz → gb σ ≤ ca → (∀ i, i < k → gi σ ca i = (P.1 (p + 8 + i)).toInt8.toInt32) → C + 1 ≤ gc σ → S + 4 * rows ≤ gs σ →
    xC x0 (fun a j => wx x0 a j ∨ a = ca ∨ (a = m ∧ j = 12)) C S (ci (∀ i, 0 ≤ i → i < rows → rowP P sz (q + 2 + 8 * i)) (atN P (U2 P.1 tail) (tail + 2) false) (.error (43, pl))) (fun _ σ' => Z8 x0 σ' ∧ (∀ i, i < sz → gi σ' ca i = (P.1 (p + 8 + i)).toInt8.toInt32) ∧ (∃ ra, gr σ' m 12 = some ra ∧ gk σ' ra = 100 ∧ gn σ' ra = 4 * rows ∧ rwX P.1 q rows ra σ') ∧ C ≤ gc σ' ∧ S ≤ gs σ') σ (x_code_215L fu f σ x0 c m (nI pl) (nI p) (lN sz) (nI q) (nI rows) (nI tail) (nI k)) := by
  have hn := g.1
  intro d
  induction d with
  | zero =>
    intro k f σ hk hf hQ hNx hm h11 kc nc hgb hv hC hS
    obtain ⟨f, rfl⟩ : ∃ z9, f = z9 + 1 := ⟨f - 1, by omega⟩
    show xC _ _ _ _ _ _ _ (x_code_215 fu (x_code_215L fu f) σ x0 c m (nI pl) (nI p) (lN sz) (nI q) (nI rows) (nI tail) (nI k))
    have lm : m < gx σ := hQ.1.lt (by rw [hm]; decide)
    have lc : ca < gx σ := hQ.1.lt (by rw [kc]; decide)
    have lx : x0 < gx σ := hQ.1.lt (by rw [hQ.2.1.2.1.1]; decide)
    unfold x_code_215
    rw [nI_l (by omega), if_pos ((cmp_ge (by omega) (by omega)).mpr (by omega)), show (4 : Int32) * nI rows = nI (4 * rows) from pk_mul 4 rows, nA_step (by omega) ⟨by omega, by omega⟩ hm (by omega)]
    have f1 : Fq (fun a j => wx x0 a j ∨ a = ca ∨ (a = m ∧ j = 12)) σ (nA σ 100 (4 * rows) m 12) := fq_nA (Or.inr (Or.inr ⟨rfl, rfl⟩))
    have h81 : Z8 x0 (nA σ 100 (4 * rows) m 12) := Z8.nA (by omega) hQ.2.2.2
    have Q1 := hQ.fr f1 (fun a j _ z => by
      rcases z with z | z | z
      · exact Or.inl z
      · rw [z]
        exact Or.inr (Or.inr ⟨hNc, hcx⟩)
      · rw [z.1]
        exact Or.inr (Or.inr ⟨hNm, hmx⟩)) h81
    have m1 : gk (nA σ 100 (4 * rows) m 12) m = 4 := by rw [gk_nA, if_neg (by omega)]; exact hm
    have r1 : gr (nA σ 100 (4 * rows) m 12) m 12 = some (gx σ) := by rw [gr_nA, if_pos ⟨rfl, rfl⟩]
    have k1 : gk (nA σ 100 (4 * rows) m 12) (gx σ) = 100 := by rw [gk_nA, if_pos rfl]
    have n1 : gn (nA σ 100 (4 * rows) m 12) (gx σ) = 4 * rows := by rw [gn_nA, if_pos rfl]
    have c1 : gc (nA σ 100 (4 * rows) m 12) = gc σ - 1 := gc_nA
    have s1 : gs (nA σ 100 (4 * rows) m 12) = gs σ - 4 * rows := gs_nA
    have x1 : gx (nA σ 100 (4 * rows) m 12) = gx σ + 1 := gx_nA
    have v1 : ∀ i, i < sz → gi (nA σ 100 (4 * rows) m 12) ca i = (P.1 (p + 8 + i)).toInt8.toInt32 := fun i hi => by rw [gi_nA, if_neg (by omega)]; exact hv i (by omega)
    refine xC.trw f1 (W2 := fun a j => wx x0 a j ∨ a = gx σ) ?_ (fun _ _ _ z => z) (fun a j ha z => z.elim Or.inl (fun z => by omega))
    generalize nA σ 100 (4 * rows) m 12 = σ1 at *
    have := x_c263 (C := C) (S := S) (pl := pl) (ra := gx σ) g hfu (show sz < 2 ^ 32 by omega) hr hq htl hsk (fun z => by have := hNx _ z; omega) (by omega) (by omega) hmx rows 0 fu σ1 (by omega) (by omega) Q1 m1 r1 k1 n1 (fun i hi => by omega) (by omega) (by omega)
    refine this.mo (fun _ _ _ z => z) (Nat.le_refl _) (Nat.le_refl _) (fun _ σ' _ w fq => ⟨w.1, fun i hi => (fq.gi (by omega) (fun z => ?_)).trans (v1 i hi), ⟨gx σ, (fq.gr (by omega) (fun z => ?_)).trans r1, fq.gk Q1.1 k1 (by decide), (fq.gn (by omega)).trans n1, w.2.1⟩, w.2.2.1, w.2.2.2⟩)
    · rcases z with z | z
      · exact hcx z.1
      · omega
    · rcases z with z | z
      · exact hmx z.1
      · omega
  | succ d ih =>
    intro k f σ hk hf hQ hNx hm h11 kc nc hgb hv hC hS
    obtain ⟨f, rfl⟩ : ∃ z9, f = z9 + 1 := ⟨f - 1, by omega⟩
    show xC _ _ _ _ _ _ _ (x_code_215 fu (x_code_215L fu f) σ x0 c m (nI pl) (nI p) (lN sz) (nI q) (nI rows) (nI tail) (nI k))
    obtain ⟨hx, fl, b2, b3, b4, b5, b6⟩ := hQ.2.1.2.1
    unfold x_code_215
    rw [nI_l (by omega), if_neg (fun w => by have := (cmp_ge (by omega) (by omega)).mp w; omega), ckT_ok hm, ckT_ok hx, b2, ckK_ok b3, b4, nI_8, nI_add, ckIn_n (by omega) (by omega), h11, ckK_ok kc, ckW_ok hgb, nc, ckIn_n (by omega) (by omega), nx_eq, nx_eq, nI_1, nI_clamp (by omega), nI_clamp (by omega), b6 _ (by omega)]
    have f1 : Fq (fun a j => wx x0 a j ∨ a = ca ∨ (a = m ∧ j = 12)) σ (gpi σ ca k (P.1 (p + 8 + k)).toInt8.toInt32) := Fq.pi (Or.inr (Or.inl rfl))
    refine xC.fr f1 (ih (k + 1) f _ (by omega) (by omega) (hQ.fr (W := fun a _ => a = ca) (Fq.pi rfl) (fun a j _ z => ?_) (hQ.2.2.2.pi (fun z => hcx z.symm))) (fun a z => by rw [gx_gpi]; exact hNx a z) (gk_gpi.trans hm) (gr_gpi.trans h11) (gk_gpi.trans kc) (gn_gpi.trans nc) (by rw [gb_gpi]; exact hgb) (fun i hi => ?_) (by rw [gc_gpi]; exact hC) (by rw [gs_gpi]; exact hS))
    · have z : a = ca := z
      rw [z]
      exact Or.inr (Or.inr ⟨hNc, hcx⟩)
    · rcases Nat.lt_or_ge i k with z | z
      · rw [gi_gpi_ne (Or.inr (by omega))]
        exact hv i z
      · rw [show i = k by omega, gi_gpi_eq]
theorem x_code_ok {C S pl p len np : Nat} (g : PG P) (hfu : 131072 < fu) (hp : p + len ≤ P.2.1) (hnp : np < 70000) (hNm : ¬ N m) (hmx : m ≠ x0) (hmc : m ≠ c) (hQ : xQ P x0 c lo N hd fa σ) (hNx : ∀ a, N a → a < gx σ) (hm : gk σ m = 4) (h13 : gi σ m 13 = nI np) (hC : C + 2 ≤ gc σ) (hS : S + 2 * len ≤ gs σ) :
    xC x0 (wm x0 m) C S (codS P np pl p len) (fun _ σ' => Z8 x0 σ' ∧ xCd P.1 m p σ' ∧ C ≤ gc σ' ∧ S ≤ gs σ') σ (x_code fu σ x0 c m (nI pl) (nI p) (nI len)) := by
  have hn := g.1
  have hF := hQ.2.1.2.1
  have hx := hF.1
  have h8 := hQ.2.2.2
  have lm : m < gx σ := hQ.1.lt (by rw [hm]; decide)
  have lx : x0 < gx σ := hQ.1.lt (by rw [hx]; decide)
  have er : ∀ r, xC x0 (wm x0 m) C S (.error (r, pl) : FE Unit) (fun _ σ' => Z8 x0 σ' ∧ xCd P.1 m p σ' ∧ C ≤ gc σ' ∧ S ≤ gs σ') σ (some (0, xwr σ x0 r pl)) := fun r => xC.er (fun _ _ z => Or.inl z) (by omega) (by omega)
  have ew : ∀ (r : Nat), ((x_wrong σ x0 (nI r) (nI pl)).bind fun r2 => ckN .boolean r2.1 (some (r2.1, r2.2))) = some (0, xwr σ x0 r pl) := fun r => by rw [x_wrong_ok hx h8, Option.bind_some, ckN_0]
  have hu4 := U4_lt P.1 (p + 4)
  unfold x_code x_code_0 codS x_code_125 x_code_149
  rw [nx_eq, nI_add, show (30 : Int32) = nI 30 from rfl, show (41 : Int32) = nI 41 from rfl, ew 30, ew 41, ckT_ok hx, ckT_ok hx, ckT_ok hx]
  by_cases h1 : len < 8
  · rw [if_neg (show ¬ (8 : Int32) ≤ nI len from nI_ge (b := 8) h1 (by omega)), if_pos h1]
    exact er 30
  rw [if_pos (show (8 : Int32) ≤ nI len from nI_le (a := 8) (by omega) (by omega)), if_neg h1, nI_4, x_u4_ok hF (by omega), Option.bind_some, nx_eq, nI_long (by omega), show nI len - (8 : Int32) = nI (len - 8) from pk_sub (b := 8) (by omega), nI_l (by omega)]
  by_cases h2 : len - 8 < U4 P.1 (p + 4)
  · rw [if_pos h2, if_neg (show ¬ lg_cmp (lN (U4 P.1 (p + 4))) (lN (len - 8)) ≤ 0 from fun w => by have := (cmp_le (by omega) (by omega)).mp w; omega)]
    exact er 30
  rw [if_pos ((cmp_le (by omega) (by omega)).mpr (by omega)), if_neg h2, nx_eq, lN_i', nI_8, nI_add, nI_2]
  generalize hszz : U4 P.1 (p + 4) = sz at *
  generalize hqq : p + 8 + sz = q at *
  by_cases h3 : p + len < q + 2
  · rw [if_neg (nI_ge h3 (by omega)), if_pos h3]
    exact er 30
  have hu2 := U2_lt P.1 q
  rw [if_pos (nI_le (by omega) (by omega)), if_neg h3, x_u2_ok hF (by omega), Option.bind_some, nx_eq, show (8 : Int32) * nI (U2 P.1 q) = nI (8 * U2 P.1 q) from pk_mul 8 _, nI_add]
  by_cases h4 : p + len < q + 2 + 8 * U2 P.1 q
  · rw [if_pos (nI_lt h4 (by omega)), if_pos h4]
    exact er 30
  rw [if_neg (nI_nlt (by omega) (by omega)), if_neg h4, x_endOfAttributes_ok hF hp (by omega) (by omega) (by omega), Option.bind_some]
  by_cases h5 : eoaS P.1 (q + 2 + 8 * U2 P.1 q) (p + len) = some (p + len)
  case neg =>
    rw [if_neg (fun w => h5 ((oI_eq (fun e he => by
      unfold eoaS at he
      split at he
      · cases he
      · have := (eoL_le _ _ he).2 (by omega)
        omega) (by omega)).mp w)), if_neg h5]
    exact er 30
  have htl : q + 2 + 8 * U2 P.1 q + 2 ≤ P.2.1 := by
    unfold eoaS at h5
    split at h5
    · cases h5
    · omega
  have hsk : skA P.1 P.2.1 (U2 P.1 (q + 2 + 8 * U2 P.1 q)) (q + 2 + 8 * U2 P.1 q + 2) = .ok (p + len) := by
    unfold eoaS at h5
    split at h5
    · cases h5
    · exact eoL_skA hp _ _ h5
  rw [if_pos (show oI (eoaS P.1 (q + 2 + 8 * U2 P.1 q) (p + len)) = nI (p + len) by rw [h5]; rfl), if_pos h5, show (0 : Int64) = lN 0 from rfl, show (65535 : Int64) = lN 65535 from rfl]
  by_cases h6 : sz = 0
  · rw [if_pos ((cmp_eq (by omega) (by omega)).mpr h6), if_pos (Or.inl h6)]
    exact er 41
  rw [if_neg (fun w => h6 ((cmp_eq (by omega) (by omega)).mp w))]
  by_cases h7 : 65535 < sz
  · omega
  rw [if_pos ((cmp_le (by omega) (by omega)).mpr (by omega)), if_neg (show ¬ (sz = 0 ∨ 65535 < sz) by omega), ckT_ok hm, nx_eq]
  -- numbers of the method
  have cm : ∀ {σ1 : GS} {j : Nat} {v : Int32}, xQ P x0 c lo N hd fa σ1 → xQ P x0 c lo N hd fa (gpi σ1 m j v) := fun {σ1 j v} w => w.fr (W := fun a _ => a = m) (Fq.pi rfl) (fun a i _ z => by
    have z : a = m := z
    rw [z]
    exact Or.inr (Or.inr ⟨hNm, hmx⟩)) (w.2.2.2.pi (fun z => hmx z.symm))
  have Q1 := cm (j := 10) (v := (1 : Int32)) hQ
  have Q2 := cm (j := 8) (v := nI (U2 P.1 p)) Q1
  have Q3 := cm (j := 9) (v := nI (U2 P.1 (p + 2))) Q2
  rw [x_u2_ok Q1.2.1.2.1 (by omega), Option.bind_some, nx_eq, nI_2, x_u2_ok Q2.2.1.2.1 (by omega), Option.bind_some, nx_eq]
  have f3 : Fq (wm x0 m) σ (gpi (gpi (gpi σ m 10 1) m 8 (nI (U2 P.1 p))) m 9 (nI (U2 P.1 (p + 2)))) := (Fq.pi (Or.inr ⟨rfl, by omega, by omega⟩)).tr ((Fq.pi (Or.inr ⟨rfl, by omega, by omega⟩)).tr (Fq.pi (Or.inr ⟨rfl, by omega, by omega⟩)))
  have a10 : gi (gpi (gpi (gpi σ m 10 1) m 8 (nI (U2 P.1 p))) m 9 (nI (U2 P.1 (p + 2)))) m 10 = 1 := by rw [gi_gpi_ne (Or.inr (by decide)), gi_gpi_ne (Or.inr (by decide)), gi_gpi_eq]
  have a8 : gi (gpi (gpi (gpi σ m 10 1) m 8 (nI (U2 P.1 p))) m 9 (nI (U2 P.1 (p + 2)))) m 8 = nI (U2 P.1 p) := by rw [gi_gpi_ne (Or.inr (by decide)), gi_gpi_eq]
  have a9 : gi (gpi (gpi (gpi σ m 10 1) m 8 (nI (U2 P.1 p))) m 9 (nI (U2 P.1 (p + 2)))) m 9 = nI (U2 P.1 (p + 2)) := gi_gpi_eq
  have a13 : gi (gpi (gpi (gpi σ m 10 1) m 8 (nI (U2 P.1 p))) m 9 (nI (U2 P.1 (p + 2)))) m 13 = nI np := by rw [gi_gpi_ne (Or.inr (by decide)), gi_gpi_ne (Or.inr (by decide)), gi_gpi_ne (Or.inr (by decide))]; exact h13
  have am : gk (gpi (gpi (gpi σ m 10 1) m 8 (nI (U2 P.1 p))) m 9 (nI (U2 P.1 (p + 2)))) m = 4 := gk_gpi.trans (gk_gpi.trans (gk_gpi.trans hm))
  have ac : gc (gpi (gpi (gpi σ m 10 1) m 8 (nI (U2 P.1 p))) m 9 (nI (U2 P.1 (p + 2)))) = gc σ := gc_gpi.trans (gc_gpi.trans gc_gpi)
  have as : gs (gpi (gpi (gpi σ m 10 1) m 8 (nI (U2 P.1 p))) m 9 (nI (U2 P.1 (p + 2)))) = gs σ := gs_gpi.trans (gs_gpi.trans gs_gpi)
  have ax : gx (gpi (gpi (gpi σ m 10 1) m 8 (nI (U2 P.1 p))) m 9 (nI (U2 P.1 (p + 2)))) = gx σ := gx_gpi.trans (gx_gpi.trans gx_gpi)
  refine xC.fr f3 ?_
  generalize gpi (gpi (gpi σ m 10 1) m 8 (nI (U2 P.1 p))) m 9 (nI (U2 P.1 (p + 2))) = σ3 at *
  have hu22 := U2_lt P.1 (p + 2)
  rw [a13, a9]
  by_cases h9 : U2 P.1 (p + 2) < np
  · rw [if_neg (nI_ge h9 (by omega)), if_pos h9, show (42 : Int32) = nI 42 from rfl, x_wrong_ok Q3.2.1.2.1.1 Q3.2.2.2, Option.bind_some, ckN_0]
    exact xC.er (fun _ _ z => Or.inl z) (by omega) (by omega)
  rw [if_pos (nI_le (by omega) (by omega)), if_neg h9, nA_step (by omega) ⟨by omega, by omega⟩ am (by omega)]
  have f4 : Fq (wm x0 m) σ3 (nA σ3 101 sz m 11) := fq_nA (Or.inr ⟨rfl, by omega, by omega⟩)
  have h84 : Z8 x0 (nA σ3 101 sz m 11) := Z8.nA (by omega) Q3.2.2.2
  have Q4 := Q3.fr f4 (fun a j _ z => by
    rcases z with z | z
    · exact Or.inl z
    · rw [z.1]
      exact Or.inr (Or.inr ⟨hNm, hmx⟩)) h84
  have bm : gk (nA σ3 101 sz m 11) m = 4 := by rw [gk_nA, if_neg (by omega)]; exact am
  have b11 : gr (nA σ3 101 sz m 11) m 11 = some (gx σ3) := by rw [gr_nA, if_pos ⟨rfl, rfl⟩]
  have bk : gk (nA σ3 101 sz m 11) (gx σ3) = 101 := by rw [gk_nA, if_pos rfl]
  have bn : gn (nA σ3 101 sz m 11) (gx σ3) = sz := by rw [gn_nA, if_pos rfl]
  have b10 : gi (nA σ3 101 sz m 11) m 10 = 1 := by rw [gi_nA, if_neg (by omega)]; exact a10
  have b8 : gi (nA σ3 101 sz m 11) m 8 = nI (U2 P.1 p) := by rw [gi_nA, if_neg (by omega)]; exact a8
  have b9 : gi (nA σ3 101 sz m 11) m 9 = nI (U2 P.1 (p + 2)) := by rw [gi_nA, if_neg (by omega)]; exact a9
  have bc : gc (nA σ3 101 sz m 11) = gc σ3 - 1 := gc_nA
  have bs : gs (nA σ3 101 sz m 11) = gs σ3 - sz := gs_nA
  have bx : gx (nA σ3 101 sz m 11) = gx σ3 + 1 := gx_nA
  have bb : gb (nA σ3 101 sz m 11) ≤ gx σ3 := by rw [gb_nA]; exact Q3.1.2
  refine xC.trw f4 (W2 := fun a j => wx x0 a j ∨ a = gx σ3 ∨ (a = m ∧ j = 12)) ?_ (fun _ _ _ z => z) (fun a j ha z => by
    rcases z with z | z | z
    · exact Or.inl z
    · omega
    · exact Or.inr ⟨z.1, by omega, by omega⟩)
  generalize nA σ3 101 sz m 11 = σ4 at *
  have := x_c215 (C := C) (S := S) (pl := pl) (p := p) (q := q) (ca := gx σ3) (m := m) g hfu (show sz < 65536 by omega) hu2 (by omega) (by omega) htl hsk (fun z => by have := hNx _ z; omega) hNm (by omega) hmx (by omega) hmc sz 0 fu σ4 (by omega) (by omega) Q4 (fun a z => by have := hNx a z; omega) bm b11 bk bn bb (fun i hi => by omega) (by omega) (by omega)
  refine this.mo (fun _ _ _ z => z) (Nat.le_refl _) (Nat.le_refl _) (fun _ σ' _ w fq => ⟨w.1, ?_, w.2.2.2.1, w.2.2.2.2⟩)
  have nm : ∀ j, j ≠ 12 → ¬ (wx x0 m j ∨ m = gx σ3 ∨ (m = m ∧ j = 12)) := fun j hj z => by
    rcases z with z | z | z
    · exact hmx z.1
    · omega
    · exact hj z.2
  have lm4 : m < gx σ4 := by omega
  obtain ⟨ra, r1, r2, r3, r4⟩ := w.2.2.1
  unfold xCd
  rw [hszz, hqq]
  exact ⟨⟨(fq.gi lm4 (nm 10 (by decide))).trans b10, (fq.gi lm4 (nm 8 (by decide))).trans b8, (fq.gi lm4 (nm 9 (by decide))).trans b9⟩, ⟨gx σ3, ⟨(fq.gr lm4 (nm 11 (by decide))).trans b11, by omega⟩, fq.gk Q4.1 bk (by decide), (fq.gn (by omega)).trans bn, w.2.1⟩, ra, r1, r2, r3, r4⟩
end XCode2
