/-! methods: the twin -/
section MMth2
set_option maxRecDepth 100000
variable {P : PD} {N fu : Nat} {S : Nat → List Nat} {σ : SM}
/-- a method's data are put down -/
noncomputable def m_st (fu : Nat) (k40 : SM → Int32 → Int32 → Int32 → Int32 → Int32 → Option (Int32 × SM)) (σ : SM) (x1 x2 x3 x4 x5 x6 x7 x9 x10 : Int32) : Option (Int32 × SM) :=
  nx (σ.1 26) fun y2 => ckIn y2 8300 (nx (sa σ 34 y2.toNatClampNeg x6) fun s4 => ckIn y2 8300 (nx (sa s4 35 y2.toNatClampNeg x7) fun s6 => ckIn y2 8300 (nx (sa s6 36 y2.toNatClampNeg x10) fun s8 => ckIn y2 8300 (nx (sa s8 37 y2.toNatClampNeg (-1 : Int32)) fun s10 => ckIn y2 8300 (nx (sa s10 38 y2.toNatClampNeg (0 : Int32)) fun s12 => ckIn y2 8300 (nx (sa s12 39 y2.toNatClampNeg (0 : Int32)) fun s14 => ckIn y2 8300 (nx (sa s14 40 y2.toNatClampNeg (0 : Int32)) fun s16 => ckIn y2 8300 (nx (sa s16 42 y2.toNatClampNeg (0 : Int32)) fun s18 => ckIn y2 8300 (nx (sa s18 43 y2.toNatClampNeg (0 : Int32)) fun s20 => ckIn y2 8300 (nx (sa s20 44 y2.toNatClampNeg (0 : Int32)) fun s22 => (m_u2 s22 (x1 + (2 : Int32))).bind fun r23 => ckIn y2 8300 (nx (sa s22 45 y2.toNatClampNeg r23) fun s26 => (m_u2 s26 (x1 + (4 : Int32))).bind fun r27 => ckIn y2 8300 (nx (sa s26 46 y2.toNatClampNeg r27) fun s30 => m_checkMethods_399L fu k40 fu s30 x1 x2 x3 x4 x5 x6 x7 x9 x10 y2 x3))))))))))))
theorem m_st_ok {k40 : SM → Int32 → Int32 → Int32 → Int32 → Int32 → Option (Int32 × SM)} {x2 x3 x4 x5 x9 : Int32} {p k fl s t : Nat} (h : mPo P N S σ) (g : PG P) (h26 : σ.1 26 = nI k) (hk : k < 8300) (hp : p + 8 ≤ P.2.1) : ∃ σ5, m_st fu k40 σ (nI p) x2 x3 x4 x5 (nI fl) (nI s) x9 (nI t) = m_checkMethods_399L fu k40 fu σ5 (nI p) x2 x3 x4 x5 (nI fl) (nI s) x9 (nI t) (nI k) x3 ∧ mfr [] mtA σ σ5 ∧ mNx mtA k σ σ5 ∧ (σ5.2 34 k = nI fl ∧ σ5.2 35 k = nI s ∧ σ5.2 36 k = nI t ∧ σ5.2 37 k = -1 ∧ σ5.2 38 k = 0 ∧ σ5.2 39 k = 0 ∧ σ5.2 40 k = 0 ∧ σ5.2 42 k = 0 ∧ σ5.2 43 k = 0 ∧ σ5.2 44 k = 0 ∧ σ5.2 45 k = nI (U2 P.1 (p + 2)) ∧ σ5.2 46 k = nI (U2 P.1 (p + 4))) := by
  have hn := g.1
  have ci : ∀ {α : Type} {q : Option α}, ckIn (nI k) 8300 q = q := fun {α q} => ckIn_n hk (by omega)
  unfold m_st
  rw [h26, nx_eq, nI_clamp (by omega)]
  simp only [ci, nx_eq]
  have A1 : mfr [] mtA σ (sa (sa (sa (sa (sa (sa (sa (sa (sa (sa σ 34 k (nI fl)) 35 k (nI s)) 36 k (nI t)) 37 k (-1)) 38 k 0) 39 k 0) 40 k 0) 42 k 0) 43 k 0) 44 k 0) := (mfr.sa (by decide)).tr ((mfr.sa (by decide)).tr ((mfr.sa (by decide)).tr ((mfr.sa (by decide)).tr ((mfr.sa (by decide)).tr ((mfr.sa (by decide)).tr ((mfr.sa (by decide)).tr ((mfr.sa (by decide)).tr ((mfr.sa (by decide)).tr (mfr.sa (by decide))))))))))
  have N1 : mNx mtA k σ (sa (sa (sa (sa (sa (sa (sa (sa (sa (sa σ 34 k (nI fl)) 35 k (nI s)) 36 k (nI t)) 37 k (-1)) 38 k 0) 39 k 0) 40 k 0) 42 k 0) 43 k 0) 44 k 0) := mNx.sa.tr (mNx.sa.tr (mNx.sa.tr (mNx.sa.tr (mNx.sa.tr (mNx.sa.tr (mNx.sa.tr (mNx.sa.tr (mNx.sa.tr mNx.sa))))))))
  have V1 : (fun σ5 : SM => σ5.2 34 k = nI fl ∧ σ5.2 35 k = nI s ∧ σ5.2 36 k = nI t ∧ σ5.2 37 k = -1 ∧ σ5.2 38 k = 0 ∧ σ5.2 39 k = 0 ∧ σ5.2 40 k = 0 ∧ σ5.2 42 k = 0 ∧ σ5.2 43 k = 0 ∧ σ5.2 44 k = 0) (sa (sa (sa (sa (sa (sa (sa (sa (sa (sa σ 34 k (nI fl)) 35 k (nI s)) 36 k (nI t)) 37 k (-1)) 38 k 0) 39 k 0) 40 k 0) 42 k 0) 43 k 0) 44 k 0) := by
    refine ⟨?_, ?_, ?_, ?_, ?_, ?_, ?_, ?_, ?_, ?_⟩ <;> simp (disch := decide) only [sa_nk, sa_eq]
  generalize sa (sa (sa (sa (sa (sa (sa (sa (sa (sa σ 34 k (nI fl)) 35 k (nI s)) 36 k (nI t)) 37 k (-1)) 38 k 0) 39 k 0) 40 k 0) 42 k 0) 43 k 0) 44 k 0 = σ1 at *
  have h1 := h.fr A1 (by decide) (by decide)
  rw [nI_2, m_u2_ok h1.1.1 (by omega), Option.bind_some]
  have A2 : mfr [] mtA σ1 (sa σ1 45 k (nI (U2 P.1 (p + 2)))) := mfr.sa (by decide)
  rw [nI_4, m_u2_ok (h1.fr A2 (by decide) (by decide)).1.1 (by omega), Option.bind_some]
  obtain ⟨v1, v2, v3, v4, v5, v6, v7, v8, v9, v10⟩ := V1
  refine ⟨_, rfl, A1.tr (A2.tr (mfr.sa (by decide))), N1.tr (mNx.sa.tr mNx.sa), ?_, ?_, ?_, ?_, ?_, ?_, ?_, ?_, ?_, ?_, ?_, ?_⟩
  all_goals simp (disch := decide) only [sa_nk, sa_eq]
  all_goals assumption
theorem m_m183 {k40 : SM → Int32 → Int32 → Int32 → Int32 → Int32 → Option (Int32 × SM)} {p s : Nat} {x2 x3 x4 x5 x9 : Int32} (h : mPo P N S σ) (g : PG P) (hfu : 131072 < fu) (hp : p + 8 ≤ P.2.1) : m_checkMethods_183 fu k40 σ (nI p) x2 x3 x4 x5 (nI (U2 P.1 p)) (nI s) (bi (n2 P p = lT 10)) x9 = ci (mdP P p) (match m_symOf σ (nI (U2 P.1 (p + 4))) with
    | some t => m_st fu k40 σ (nI p) x2 x3 x4 x5 (nI (U2 P.1 p)) (nI s) x9 t
    | none => none) (some (0, mwr σ 25 (p + 4))) := by
  have hn := g.1
  have u4 := U2_lt P.1 (p + 4)
  have t4 := tgP_lt P (U2 P.1 (p + 4))
  have e269 : m_checkMethods_269 fu σ (nI p) = some (0, mwr σ 25 (p + 4)) := by
    unfold m_checkMethods_269
    rw [nI_4]
    exact m_wL 25
  unfold m_checkMethods_183 m_checkMethods_213
  rw [e269, nI_4, m_u2_ok h.1.1 (by omega), Option.bind_some, m_tag_ok h g u4, Option.bind_some]
  by_cases d1 : tgP P (U2 P.1 (p + 4)) = 1
  case neg => rw [if_neg (nL (k := 1) (by omega) (by omega) d1), if_pos (show (-1 : Int32) < 0 by decide), ci_f (fun w => d1 w.1)]
  obtain ⟨t, s1, s2, s3, s4⟩ := m_sym h g d1
  have sN : t < 2 ^ 31 := by
    have := h.2.1.1.1
    omega
  rw [if_pos (show nI (tgP P (U2 P.1 (p + 4))) = (1 : Int32) by rw [d1]; rfl), Option.bind_some, s1, Option.bind_some, if_neg (show ¬ nI t < 0 from nI_nlt (b := 0) (by omega) (by omega)), m_isMethod_ok s4 (by omega), Option.bind_some]
  show _ = ci (mdP P p) (m_st fu k40 σ (nI p) x2 x3 x4 x5 (nI (U2 P.1 p)) (nI s) x9 (nI t)) _
  by_cases q1 : placesS (txP P (U2 P.1 (p + 4))) ≠ none
  case neg => rw [ib_f q1, ci_f (fun w => q1 w.2.1)]
  rw [ib_t q1]
  obtain ⟨c, hc⟩ : ∃ c, placesS (txP P (U2 P.1 (p + 4))) = some c := by
    cases hz : placesS (txP P (U2 P.1 (p + 4))) with
    | none => exact absurd hz q1
    | some c => exact ⟨c, rfl⟩
  have hcl := placesS_le hc
  have e243 : (n2 P p = lT 10 → ch (n4 P p) ((n4 P p).length - 1) = 86) → m_checkMethods_243 fu k40 σ (nI p) x2 x3 x4 x5 (nI (U2 P.1 p)) (nI s) x9 (nI t) = ci (mdP P p) (m_st fu k40 σ (nI p) x2 x3 x4 x5 (nI (U2 P.1 p)) (nI s) x9 (nI t)) (some (0, mwr σ 25 (p + 4))) := fun hV => by
    unfold m_checkMethods_243 m_checkMethods_262
    rw [m_places0_ok s4 (by omega) hc, Option.bind_some, e269]
    show (if _ then (if nI c + (1 : Int32) ≤ (255 : Int32) then m_st fu k40 σ (nI p) x2 x3 x4 x5 (nI (U2 P.1 p)) (nI s) x9 (nI t) else _) else (if nI c + (0 : Int32) ≤ (255 : Int32) then m_st fu k40 σ (nI p) x2 x3 x4 x5 (nI (U2 P.1 p)) (nI s) x9 (nI t) else _)) = _
    rw [nI_1, show nI c + (0 : Int32) = nI (c + 0) from nI_add c 0]
    by_cases q2 : (nI (U2 P.1 p) &&& (8 : Int32)) = 0
    · rw [if_pos q2]
      by_cases q3 : c + 1 ≤ 255
      · rw [if_pos (show nI (c + 1) ≤ (255 : Int32) from nI_le (b := 255) q3 (by omega)), ci_t ⟨d1, q1, hV, fun w => by have := hc.symm.trans w.1; have := Option.some.inj this; omega⟩]
      · rw [if_neg (show ¬ nI (c + 1) ≤ (255 : Int32) from nI_ge (a := 255) (by omega) (by omega)), ci_f (fun w => w.2.2.2 ⟨by show placesS (txP P (U2 P.1 (p + 4))) = some 255; rw [hc, show c = 255 by omega], q2⟩)]
    · rw [if_neg q2, if_pos (show nI (c + 0) ≤ (255 : Int32) from nI_le (b := 255) (by omega) (by omega)), ci_t ⟨d1, q1, hV, fun w => q2 w.2⟩]
  by_cases q2 : n2 P p = lT 10
  case neg =>
    rw [ib_f q2]
    exact e243 (fun w => absurd w q2)
  rw [ib_t q2, m_endsV_ok s4 (by omega), Option.bind_some]
  by_cases q3 : ch (txP P (U2 P.1 (p + 4))) ((txP P (U2 P.1 (p + 4))).length - 1) = 86
  · rw [ib_t ⟨q3, placesS_V q1 q3⟩]
    exact e243 (fun _ => q3)
  · rw [ib_f (fun w => q3 w.1), ci_f (fun w => q3 (w.2.2.1 q2))]
abbrev mtL : List Nat := [26, 47, 48]
theorem m_mt_loop {nn fl q : Nat} {fin : Prop} {x4 : Int32} (g : PG P) (hfu : 131072 < fu) (hnn : nn < 8300) (h4 : x4 = 0 ↔ ¬ ¬ (nI fl &&& (512 : Int32)) = 0) : ∀ d k f p M σ, k + d = nn → d < f → mPo P N S σ → mKn σ → σ.1 26 = nI k → (∀ j, j < k → mMt P N S j (M j) σ) → skM P.1 P.2.1 d p = .ok q →
    mRes mtL mtA (mtS P (¬ (nI fl &&& (512 : Int32)) = 0) fin d k p M) (fun M' σ' => σ'.1 26 = nI nn ∧ ∀ j, j < nn → mMt P N S j (M' j) σ') σ (m_checkMethods_40L fu f σ (nI p) (nI nn) (nI 0) x4 (nI k)) := by
  have hn := g.1
  intro d
  induction d with
  | zero =>
    intro k f p M σ hk hf h hK h26 hv hq
    obtain ⟨f, rfl⟩ : ∃ z9, f = z9 + 1 := ⟨f - 1, by omega⟩
    show mRes _ _ _ _ _ (m_checkMethods_40 fu (m_checkMethods_40L fu f) σ (nI p) (nI nn) (nI 0) x4 (nI k))
    unfold m_checkMethods_40 mtS
    rw [if_pos (nI_le (by omega) (by omega))]
    exact mRes.ok ⟨by rw [h26, show k = nn by omega], fun j hj => hv j (by omega)⟩
  | succ d ih =>
    intro k f p M σ hk hf h hK h26 hv hq
    obtain ⟨f, rfl⟩ : ∃ z9, f = z9 + 1 := ⟨f - 1, by omega⟩
    obtain ⟨hp, q', hat, hq'n, hpq, hq⟩ := skM_su hq
    show mRes _ _ _ _ _ (m_checkMethods_40 fu (m_checkMethods_40L fu f) σ (nI p) (nI nn) (nI 0) x4 (nI k))
    unfold m_checkMethods_40 mtS
    rw [if_neg (nI_ge (by omega) (by omega)), m_m83 h g hfu hp h4]
    by_cases c1 : mnP P (¬ (nI fl &&& (512 : Int32)) = 0) p
    case neg =>
      rw [ci_f c1, ci_f c1]
      exact mRes.er (by decide) (by decide)
    rw [ci_t c1, ci_t c1]
    by_cases c2 : n2 P p = lT 11 ∨ mflP P (¬ (nI fl &&& (512 : Int32)) = 0) (n2 P p = lT 10) (U2 P.1 p)
    case neg =>
      rw [ci_f c2, ci_f c2]
      exact mRes.er (by decide) (by decide)
    obtain ⟨s, s1, s2, s3, s4⟩ := m_sym h g c1.1
    rw [ci_t c2, ci_t c2, s1]
    show mRes _ _ _ _ _ (m_checkMethods_183 fu (m_checkMethods_40L fu f) σ (nI p) (nI nn) (nI 0) x4 (nI k) (nI (U2 P.1 p)) (nI s) (bi (n2 P p = lT 10)) (bi (n2 P p = lT 11)))
    rw [m_m183 h g hfu hp]
    by_cases c3 : mdP P p
    case neg =>
      rw [ci_f c3, ci_f c3]
      exact mRes.er (by decide) (by decide)
    obtain ⟨t, z1, z2, z3, z4⟩ := m_sym h g c3.1
    rw [ci_t c3, ci_t c3, z1]
    show mRes _ _ _ _ _ (m_st fu (m_checkMethods_40L fu f) σ (nI p) (nI nn) (nI 0) x4 (nI k) (nI (U2 P.1 p)) (nI s) (bi (n2 P p = lT 11)) (nI t))
    obtain ⟨σ5, e5, A5, n5, v34, v35, v36, v37, v38, v39, v40, v42, v43, v44, v45, v46⟩ := m_st_ok (fu := fu) (k40 := m_checkMethods_40L fu f) (x2 := nI nn) (x3 := nI 0) (x4 := x4) (x5 := nI k) (x9 := bi (n2 P p = lT 11)) (fl := U2 P.1 p) (s := s) (t := t) h g h26 (show k < 8300 by omega) hp
    rw [e5]
    have F5 : mfr mtL mtA σ σ5 := A5.mo (by decide) (fun _ z => z)
    refine mRes.fr F5 ?_
    have h5 := h.fr F5 (by decide) (by decide)
    have hv5 : ∀ j, j < k → mMt P N S j (M j) σ5 := fun j hj => (hv j hj).fr (fun a ha => n5 a ha j (by omega))
    have x35 : mSx N S 35 k (n2 P p) σ5 := ⟨s, s2, v35, s3⟩
    have x36 : mSx N S 36 k (n4 P p) σ5 := ⟨t, z2, v36, z3⟩
    rw [show m_checkMethods_399L fu (m_checkMethods_40L fu f) fu σ5 (nI p) (nI nn) (nI 0) x4 (nI k) (nI (U2 P.1 p)) (nI s) (bi (n2 P p = lT 11)) (nI t) (nI k) (nI 0) = _ from m_m399 h5 (by omega) (fun j hj => ⟨(hv5 j hj).2.1, (hv5 j hj).2.2.1⟩) ⟨s2, s3⟩ ⟨z2, z3⟩ k 0 fu (by omega) (by omega)]
    by_cases q3 : ∀ j, 0 ≤ j → j < k → ¬ (n2 P (M j).1 = n2 P p ∧ n4 P (M j).1 = n4 P p)
    case neg =>
      rw [ci_f q3, ci_f q3]
      exact mRes.er (by decide) (by decide)
    rw [ci_t q3, ci_t q3]
    have e26 : σ5.1 26 = nI k := (A5.1 26 (by decide)).trans h26
    rw [e26, nI_1]
    have A6 : mfr mtL mtA σ5 (sf σ5 26 (nI (k + 1))) := mfr.sf (by decide)
    have h6 := h5.fr A6 (by decide) (by decide)
    have K6 : mKn (sf σ5 26 (nI (k + 1))) := (hK.fr F5 (by decide) (by decide)).fr A6 (by decide) (by decide)
    refine mRes.fr A6 ?_
    have i26 : (sf σ5 26 (nI (k + 1))).1 26 = nI (k + 1) := sf_eq
    have hv6 : ∀ j, j < k → mMt P N S j (M j) (sf σ5 26 (nI (k + 1))) := fun j hj => (hv5 j hj).fr (fun _ _ => rfl)
    have r34 : (sf σ5 26 (nI (k + 1))).2 34 k = nI (U2 P.1 p) := v34
    have r35 : mSx N S 35 k (n2 P p) (sf σ5 26 (nI (k + 1))) := x35
    have r36 : mSx N S 36 k (n4 P p) (sf σ5 26 (nI (k + 1))) := x36
    have r37 : (sf σ5 26 (nI (k + 1))).2 37 k = -1 ∧ (sf σ5 26 (nI (k + 1))).2 38 k = 0 ∧ (sf σ5 26 (nI (k + 1))).2 39 k = 0 ∧ (sf σ5 26 (nI (k + 1))).2 40 k = 0 ∧ (sf σ5 26 (nI (k + 1))).2 42 k = 0 := ⟨v37, v38, v39, v40, v42⟩
    have r43 : (sf σ5 26 (nI (k + 1))).2 43 k = 0 := v43
    have r44 : (sf σ5 26 (nI (k + 1))).2 44 k = 0 := v44
    have r45 : (sf σ5 26 (nI (k + 1))).2 45 k = nI (U2 P.1 (p + 2)) := v45
    have r46 : (sf σ5 26 (nI (k + 1))).2 46 k = nI (U2 P.1 (p + 4)) := v46
    generalize sf σ5 26 (nI (k + 1)) = σ6 at *
    have hsk : skA P.1 P.2.1 (U2 P.1 (p + 6)) (p + 8) = .ok q' := by
      have z := hat
      unfold attrS at z
      obtain ⟨_, _, z⟩ := eb_inv z
      exact z
    obtain ⟨c, hc⟩ : ∃ c, placesS (n4 P p) = some c := by
      cases hz : placesS (n4 P p) with
      | none => exact absurd hz c3.2.1
      | some c => exact ⟨c, rfl⟩
    have hAt := m_att_ok (fu := fu) (a := fun _ => 0) (x := k) (p := p + 6) (q := q') g hfu (by omega) (mStp1 (fin := fin) (fl := U2 P.1 p) (σ0 := σ6) g hfu (by omega) r34 r36 hc) h6 K6 ⟨⟨r43, r44, by rw [if_pos rfl]; exact r37⟩, mNx.rf, mfr.rf⟩ (by omega) hsk
    revert hAt
    show mCA _ _ (attsS P 1 fin (U2 P.1 p) (n4 P p) (npS (n4 P p) (U2 P.1 p)) (U2 P.1 (p + 6)) (p + 8) 0 (fun _ => 0)) _ _ _ (m_checkAttributes fu σ6 (nI (p + 6)) (2 : Int32) (nI k)) → _
    cases attsS P 1 fin (U2 P.1 p) (n4 P p) (npS (n4 P p) (U2 P.1 p)) (U2 P.1 (p + 6)) (p + 8) 0 (fun _ => 0) with
    | error er =>
      rintro ⟨σ7, a1, a2, a3, a4⟩
      refine ⟨σ7, ?_, a2, a3, a4.mo (by decide) (by decide)⟩
      rw [a1, Option.bind_some, if_neg (show ¬ (0 : Int32) ≤ ((-1 : Int32), σ7).1 from (by decide : ¬ (0 : Int32) ≤ -1))]
    | ok a =>
      rintro ⟨σ7, a1, ⟨s', ⟨b1, b2, b5⟩, b3, b4⟩, -⟩
      rw [a1, Option.bind_some, if_pos (show (0 : Int32) ≤ (nI q', σ7).1 from nI_pos' (by omega)), eb_ok, hat, eb_ok]
      have F7 : mfr mtL mtA σ6 σ7 := b4.mo (by decide) (by decide)
      refine mRes.fr F7 ?_
      have hco : (0 : Int32) ≤ σ7.2 37 k ↔ ¬ a 3 = 0 := by
        by_cases z : a 3 = 0
        · rw [if_pos z] at b5
          rw [b5.1]
          exact ⟨fun w => absurd w (by decide), fun w => absurd z w⟩
        · rw [if_neg z] at b5
          rw [b5.2.1]
          have := b5.1
          exact ⟨fun _ => z, fun _ => nI_pos' (by omega)⟩
      have fin2 : mRes mtL mtA (ci (¬ a 3 = 0 ↔ bare P p) (.error (27, p)) (mtS P (¬ (nI fl &&& (512 : Int32)) = 0) fin d (k + 1) q' (uM M k (p, a)))) (fun M' σ' => σ'.1 26 = nI nn ∧ ∀ j, j < nn → mMt P N S j (M' j) σ') σ7 (m_checkMethods_493 fu (m_checkMethods_40L fu f) σ7 (nI p) (nI nn) (nI 0) x4 (nI k) (nI k) (nI q') (bi (bare P p))) := by
        unfold m_checkMethods_493 m_checkMethods_510
        rw [ckIn_n (by omega) (by omega), nI_clamp (by omega), nx_eq, nI_1, m_wL 27]
        have go : mRes mtL mtA (mtS P (¬ (nI fl &&& (512 : Int32)) = 0) fin d (k + 1) q' (uM M k (p, a))) (fun M' σ' => σ'.1 26 = nI nn ∧ ∀ j, j < nn → mMt P N S j (M' j) σ') σ7 (m_checkMethods_40L fu f σ7 (nI q') (nI nn) (nI 0) x4 (nI (k + 1))) := by
          have ex : ∀ j, j ≠ k → ∀ a, a ∈ mtA → σ7.2 a j = σ6.2 a j := fun j hj a ha => by
            by_cases w : a ∈ [37, 38, 39, 40, 41, 42, 43, 44]
            · exact b3 a w j hj
            · rw [b4.2 a w]
          refine ih (k + 1) f q' (uM M k (p, a)) σ7 (by omega) (by omega) (h6.fr F7 (by decide) (by decide)) (K6.fr F7 (by decide) (by decide)) ((b4.1 26 (by decide)).trans i26) (fun j hj => ?_) hq
          by_cases w : j = k
          · subst w
            rw [show uM M j (p, a) j = (p, a) from if_pos rfl]
            exact ⟨⟨by rw [b4.2 34 (by decide)]; exact r34, b1, b2, by rw [b4.2 45 (by decide)]; exact r45, by rw [b4.2 46 (by decide)]; exact r46⟩, r35.fr (by rw [b4.2 35 (by decide)]), r36.fr (by rw [b4.2 36 (by decide)]), b5⟩
          · rw [show uM M k (p, a) j = M j from if_neg w]
            exact (hv6 j (by omega)).fr (ex j w)
        by_cases w1 : a 3 = 0
        · rw [if_neg (fun z => (hco.mp z) w1)]
          by_cases w2 : bare P p
          · rw [bi_t w2, if_pos rfl, ci_f (fun z => (z.mpr w2) w1)]
            exact go
          · rw [bi_f w2, if_neg (show ¬ (1 : Int32) = 0 from i10), ci_t ⟨fun z => absurd w1 z, fun z => absurd z w2⟩]
            exact mRes.er (by decide) (by decide)
        · rw [if_pos (hco.mpr w1)]
          by_cases w2 : bare P p
          · rw [bi_t w2, if_neg (show ¬ (0 : Int32) = 1 by decide), ci_t ⟨fun _ => w2, fun _ => w1⟩]
            exact mRes.er (by decide) (by decide)
          · rw [bi_f w2, if_pos rfl, ci_f (fun z => w2 (z.mp w1))]
            exact go
      unfold m_checkMethods_492
      by_cases w3 : (nI (U2 P.1 p) &&& (1280 : Int32)) = 0
      · rw [if_pos w3]
        rw [bi_f (show ¬ bare P p from fun z => z.2 w3)] at fin2
        exact fin2
      rw [if_neg w3]
      by_cases w4 : n2 P p = lT 11
      · rw [ib_t w4]
        rw [bi_f (show ¬ bare P p from fun z => z.1 w4)] at fin2
        exact fin2
      · rw [ib_f w4]
        rw [bi_t (show bare P p from ⟨w4, w3⟩)] at fin2
        exact fin2
theorem m_checkMethods_ok {fl p q : Nat} {fin : Prop} (g : PG P) (hfu : 131072 < fu) (h : mPo P N S σ) (hK : mKn σ) (h58 : σ.1 58 = nI fl) (h26 : σ.1 26 = 0) (h56 : σ.1 56 = nI p) (hp : p + 2 ≤ P.2.1) (hq : membS P.1 P.2.1 p = .ok q) :
    mRes mtL mtA (mthS P (¬ (nI fl &&& (512 : Int32)) = 0) fin p) (fun M' σ' => σ'.1 26 = nI (U2 P.1 p) ∧ ∀ j, j < U2 P.1 p → mMt P N S j (M' j) σ') σ (m_checkMethods fu σ) := by
  have hn := g.1
  unfold membS at hq
  obtain ⟨_, _, hq⟩ := eb_inv hq
  have hm := mem8 _ _ _ hq hp
  unfold m_checkMethods m_checkMethods_0 m_checkMethods_35 mthS
  rw [nx_eq, h56, m_u2_ok h.1.1 hp, Option.bind_some, nx_eq, nI_2, nx_eq, h26, h58]
  by_cases z : (nI fl &&& (512 : Int32)) = 0
  · rw [if_pos z]
    exact m_mt_loop g hfu (by omega) ⟨fun _ w => w z, fun _ => rfl⟩ (U2 P.1 p) 0 fu (p + 2) _ σ (by omega) (by omega) h hK h26 (fun j hj => by omega) hq
  · rw [if_neg z]
    exact m_mt_loop g hfu (by omega) ⟨fun w => absurd w i10, fun w => absurd z w⟩ (U2 P.1 p) 0 fu (p + 2) _ σ (by omega) (by omega) h hK h26 (fun j hj => by omega) hq
end MMth2
