/-! questions about what is kept: bits, character, find, member, row, bootstrap -/
section Qry2
set_option maxRecDepth 100000
variable {F : Nat → Int32} {n : Nat} {K : CR} {x0 c lo B fu : Nat} {N : Nat → Prop} {T : Nat → MR → GS → Prop} {σ : GS} {M : Nat} {S : Nat → List Nat} {τ : SM}
theorem q_bits (g : FO F n K.1) (hx : xKc T F n K x0 c lo B N σ) (hm : mKc F n K M S τ) (v : Int32) : ∃ r, x_bits σ x0 v = some r ∧ m_bits τ v = some (r, sf τ 0 0) := by
  have hE := x_isEntry_ok hx (v := v)
  obtain ⟨k0, k5, hP, -⟩ := hx
  have hP : xPc (pK F n K) c lo N σ := hP
  have hm0 := hm.t0 (v := 0)
  have ge := hm0.ge
  obtain ⟨-, -, pP, -⟩ := hm0
  have pP : mPo (pK F n K) M S (sf τ 0 0) := pP
  have hPG : PG (pK F n K) := g.1
  have hc := ctP_lt (pK F n K)
  unfold x_bits x_bits_0 x_bits_47 m_bits m_bits_0 m_bits_30 m_bits_56
  rw [nx_eq, ckT_ok k0, hE, Option.bind_some, if_pos ge]
  rcases tg_any pP hPG v with ⟨k, hk, rfl, e⟩ | ⟨z, e⟩
  case inr => exact ⟨0, by rw [ib_f z], by rw [e]; rfl⟩
  rw [ib_t ⟨k, hk, rfl⟩, e, Option.bind_some, k5, ckK_ok hP.1.1, hP.2.1.1, ckK_ok hP.2.2.1.1, hP.2.2.2.1.1, ckIn_n hk (by omega), ckIn_n hk (by omega), nI_clamp (by omega)]
  obtain ⟨e1, e2, e3, e4⟩ := x_tg hP hk
  have tl := tgP_lt (pK F n K) k
  rw [e1, hP.2.1.2.2.2.1, ckK_ok hP.2.2.1.2.2.2.1, hP.2.2.2.1.2.2.2.1, ckIn_n hk (by omega), e4]
  have hpv : pvP (pK F n K) k = pvS F (K.1.1 k) := rfl
  have out : ¬ (3 ≤ tgP (pK F n K) k ∧ tgP (pK F n K) k ≤ 6) → (if nI (tgP (pK F n K) k) < (3 : Int32) then some (0 : Int64) else if (6 : Int32) < nI (tgP (pK F n K) k) then some (0 : Int64) else some (pvP (pK F n K) k)) = some 0 := fun w => by
    by_cases y : tgP (pK F n K) k < 3
    · rw [if_pos (show nI (tgP (pK F n K) k) < (3 : Int32) from nI_lt (b := 3) y (by omega))]
    · rw [if_neg (show ¬ nI (tgP (pK F n K) k) < (3 : Int32) from nI_nlt (b := 3) (by omega) (by omega)), if_pos (show (6 : Int32) < nI (tgP (pK F n K) k) from nI_lt (a := 6) (by omega) (by omega))]
  by_cases w : 3 ≤ tgP (pK F n K) k ∧ tgP (pK F n K) k ≤ 6
  case neg =>
    refine ⟨0, out w, ?_⟩
    rw [if_neg (nL (k := 3) (by omega) (by omega) (by omega)), if_neg (nL (k := 4) (by omega) (by omega) (by omega)), if_neg (nL (k := 5) (by omega) (by omega) (by omega)), if_neg (nL (k := 6) (by omega) (by omega) (by omega))]
  have hi := hPG.in (i := k) (by omega)
  have hs := hPG.sz (i := k) (by omega)
  have hA := (pP.2.2 k hk).1
  rw [if_neg hi.2.2.1] at hA
  have hU : U1 F (K.1.1 k) = tgP (pK F n K) k := hi.2.2.2.symm
  have hA0 : ¬ K.1.1 k = 0 := hi.2.2.1
  refine ⟨pvP (pK F n K) k, by rw [if_neg (show ¬ nI (tgP (pK F n K) k) < (3 : Int32) from nI_nlt (b := 3) (by omega) (by omega)), if_neg (show ¬ (6 : Int32) < nI (tgP (pK F n K) k) from nI_nlt (a := 6) (by omega) (by omega))], ?_⟩
  have ckk : ∀ {α : Type} {q : Option α}, ckIn (nI k) 65540 q = q := fun {α q} => ckIn_n (by omega) (by omega)
  simp only [ckk]
  rw [hA, nI_1, hpv]
  unfold pvS
  rw [if_neg hA0, hU]
  have e4 : tgP (pK F n K) k = 3 ∨ tgP (pK F n K) k = 4 → ((m_u4 (sf τ 0 0) (nI (K.1.1 k + 1))).bind fun r2 => some (r2.toInt32.toInt64, sf τ 0 0)) = some (if tgP (pK F n K) k = 3 ∨ tgP (pK F n K) k = 4 then (nI (U4 F (K.1.1 k + 1))).toInt64 else if tgP (pK F n K) k = 5 ∨ tgP (pK F n K) k = 6 then (lN (U4 F (K.1.1 k + 1)) <<< ((32 : Int32).toInt64 &&& 63)) ||| lN (U4 F (K.1.1 k + 5)) else 0, sf τ 0 0) := fun y => by
    have hh := hs.2.1
    have : esz (tgP (pK F n K) k) = 5 := by rcases y with y | y <;> rw [y] <;> decide
    rw [this] at hh
    have hh : K.1.1 k + 5 ≤ n := hh
    rw [m_u4_ok (F := F) (n := n) pP.1.1 (by omega), Option.bind_some, lN_i', if_pos y]
  have e8 : tgP (pK F n K) k = 5 ∨ tgP (pK F n K) k = 6 → ((m_u4 (sf τ 0 0) (nI (K.1.1 k + 1))).bind fun r2 => (m_u4 (sf τ 0 0) (nI (K.1.1 k) + (5 : Int32))).bind fun r5 => some ((r2 <<< ((32 : Int32).toInt64 &&& 63)) ||| r5, sf τ 0 0)) = some (if tgP (pK F n K) k = 3 ∨ tgP (pK F n K) k = 4 then (nI (U4 F (K.1.1 k + 1))).toInt64 else if tgP (pK F n K) k = 5 ∨ tgP (pK F n K) k = 6 then (lN (U4 F (K.1.1 k + 1)) <<< ((32 : Int32).toInt64 &&& 63)) ||| lN (U4 F (K.1.1 k + 5)) else 0, sf τ 0 0) := fun y => by
    have hh := hs.2.1
    have : esz (tgP (pK F n K) k) = 9 := by rcases y with y | y <;> rw [y] <;> decide
    rw [this] at hh
    have hh : K.1.1 k + 9 ≤ n := hh
    rw [m_u4_ok (F := F) (n := n) pP.1.1 (by omega), Option.bind_some, show nI (K.1.1 k) + (5 : Int32) = nI (K.1.1 k + 5) from nI_add _ 5, m_u4_ok (F := F) (n := n) pP.1.1 (by omega), Option.bind_some, if_neg (by omega), if_pos y]
  by_cases y3 : tgP (pK F n K) k = 3
  · rw [if_pos (show nI (tgP (pK F n K) k) = (3 : Int32) by rw [y3]; rfl)]
    exact e4 (Or.inl y3)
  rw [if_neg (nL (k := 3) (by omega) (by omega) y3)]
  by_cases y4 : tgP (pK F n K) k = 4
  · rw [if_pos (show nI (tgP (pK F n K) k) = (4 : Int32) by rw [y4]; rfl)]
    exact e4 (Or.inr y4)
  rw [if_neg (nL (k := 4) (by omega) (by omega) y4)]
  by_cases y5 : tgP (pK F n K) k = 5
  · rw [if_pos (show nI (tgP (pK F n K) k) = (5 : Int32) by rw [y5]; rfl)]
    exact e8 (Or.inl y5)
  rw [if_neg (nL (k := 5) (by omega) (by omega) y5), if_pos (show nI (tgP (pK F n K) k) = (6 : Int32) by rw [show tgP (pK F n K) k = 6 by omega]; rfl)]
  exact e8 (Or.inr (by omega))
/-- the text of an entry -/
theorem x_textOf_ok (g : FO F n K.1) (hx : xKc T F n K x0 c lo B N σ) (v : Int32) : (∃ k s, k < ctP (pK F n K) ∧ v = nI k ∧ tgP (pK F n K) k = 1 ∧ x_textOf σ x0 v = some (some s) ∧ pS N (txP (pK F n K) k) s σ) ∨ ((∀ k, k < ctP (pK F n K) → v = nI k → tgP (pK F n K) k ≠ 1) ∧ x_textOf σ x0 v = some none) := by
  have hE := x_isEntry_ok hx (v := v)
  obtain ⟨k0, k5, hP, -⟩ := hx
  have hP : xPc (pK F n K) c lo N σ := hP
  have hPG : PG (pK F n K) := g.1
  have hc := ctP_lt (pK F n K)
  unfold x_textOf x_textOf_0 x_textOf_33
  rw [ckT_ok k0, hE, Option.bind_some]
  by_cases z : ∃ k, k < ctP (pK F n K) ∧ v = nI k
  case neg => exact Or.inr ⟨fun k z1 z2 => absurd ⟨k, z1, z2⟩ z, by rw [ib_f z]⟩
  rw [ib_t z]
  obtain ⟨k, hk, rfl⟩ := z
  have tl := tgP_lt (pK F n K) k
  rw [k5, ckK_ok hP.1.1, hP.2.1.1, ckK_ok hP.2.2.1.1, hP.2.2.2.1.1, ckIn_n hk (by omega), nI_clamp (by omega), (x_tg hP hk).1]
  by_cases ht : tgP (pK F n K) k = 1
  · obtain ⟨s, s1, s2, s3, s4⟩ := (hP.2.2.2.2.2 k hk).2.2.2.2 ht
    refine Or.inl ⟨k, s, hk, rfl, ht, ?_, s2, s3, s4⟩
    rw [if_pos (show nI (tgP (pK F n K) k) = (1 : Int32) by rw [ht]; rfl), hP.2.1.2.2.2.2, ckK_ok hP.2.2.1.2.2.2.2, hP.2.2.2.1.2.2.2.2, ckIn_n hk (by omega), s1]
  · refine Or.inr ⟨fun j j1 j2 => ?_, by rw [if_neg (nL (k := 1) (by omega) (by omega) ht)]⟩
    rw [← (nI_eq (by omega) (by omega)).mp j2]
    exact ht
theorem m_noText {P : PD} (h : mPo P M S τ) (g : PG P) {v : Int32} (hv : ∀ k, k < ctP P → v = nI k → tgP P k ≠ 1) : ∃ t, m_tag τ v = some t ∧ ¬ t = 1 := by
  rcases tg_any h g v with ⟨k, hk, e1, e⟩ | ⟨z, e⟩
  · exact ⟨_, e, nL (k := 1) (by have := tgP_lt P k; omega) (by omega) (hv k hk e1)⟩
  · exact ⟨0, e, by decide⟩
theorem q_character (g : FO F n K.1) (hx : xKc T F n K x0 c lo B N σ) (hm : mKc F n K M S τ) (v u : Int32) : ∃ r, x_character σ x0 v u = some r ∧ m_character τ v u = some (r, sf τ 0 0) := by
  have hm0 := hm.t0 (v := 0)
  have nl := hm0.nl
  obtain ⟨-, -, pP, -⟩ := hm0
  have pP : mPo (pK F n K) M S (sf τ 0 0) := pP
  have hPG : PG (pK F n K) := g.1
  have hc := ctP_lt (pK F n K)
  have k0 := hx.1
  unfold x_character x_character_0 x_character_22 m_character m_character_0 m_character_38
  rw [nx_eq, ckT_ok k0, if_neg nl]
  rcases x_textOf_ok g hx v with ⟨k, s, hk, rfl, ht, e, s2, s3, s4⟩ | ⟨hv, e⟩
  case inr =>
    obtain ⟨t, t1, t2⟩ := m_noText pP hPG hv
    exact ⟨-1, by rw [e]; rfl, by rw [t1, Option.bind_some, if_neg t2]⟩
  obtain ⟨s', y1, y2, y3, y4⟩ := m_sym pP hPG ht
  have hT := s2.toxT
  have hl := hT.2.1
  rw [e, Option.bind_some, if_neg snn, m_tag_ok pP hPG (by omega), Option.bind_some, if_pos (show nI (tgP (pK F n K) k) = (1 : Int32) by rw [ht]; rfl), y1, Option.bind_some, y4.2.2.1, Option.bind_some, ckK_ok s2.1, hT.2.2.2.1, Option.bind_some, Option.bind_some]
  rcases i32c u with h | ⟨i, hi, rfl⟩
  · exact ⟨-1, by rw [if_pos h], by rw [if_pos h]⟩
  rw [if_neg (nn0 hi), if_neg (nn0 hi)]
  by_cases w : i < (txP (pK F n K) k).length
  · exact ⟨nI (ch (txP (pK F n K) k) i), by rw [if_pos (nI_lt w (by omega)), hT.2.2.2.2 i w, Option.bind_some], by rw [if_pos (nI_lt w (by omega)), y4.2.2.2 i w, Option.bind_some]⟩
  · exact ⟨-1, by rw [if_neg (nI_nlt (by omega) hi)], by rw [if_neg (nI_nlt (by omega) hi)]⟩
/-- places of a text -/
theorem kind9 (c : Nat) : kindS c = 9 ↔ c = 86 := by
  unfold kindS kix
  by_cases q : c = 90 ∨ c = 67 ∨ c = 70 ∨ c = 68 ∨ c = 66 ∨ c = 83 ∨ c = 73 ∨ c = 74
  · rcases q with rfl | rfl | rfl | rfl | rfl | rfl | rfl | rfl <;> decide
  · have : ¬ c = 90 ∧ ¬ c = 67 ∧ ¬ c = 70 ∧ ¬ c = 68 ∧ ¬ c = 66 ∧ ¬ c = 83 ∧ ¬ c = 73 ∧ ¬ c = 74 := by omega
    simp only [this, if_false]
    split <;> simp_all
noncomputable def rtS (t : List Nat) (k : Nat) : Nat := ci (ch t (k + 1) = 86) 0 (ci (TwoS (ch t (k + 1))) 2 1)
theorem x_pl50 {t : List Nat} {s : Nat} (hT : xT t s σ) (hK : xKI fu σ) (hfu : 65536 < fu) {c0 k0 : Nat} (hk0 : k0 + 1 < t.length) : ∀ d c k f, k ≤ t.length → d ≤ f → plS t d c k = some (c0, k0) → x_places_50L fu σ f (some s) (nI c0) (nI k) = some (nI (c0 + 1024 * rtS t k0)) := by
  have hT' := hT
  obtain ⟨h1, h2, h3, h4, h5⟩ := hT
  intro d
  induction d with
  | zero => intro c k f _ _ h; cases h
  | succ d ih =>
    intro c k f hk hf hp
    obtain ⟨f, rfl⟩ : ∃ z9, f = z9 + 1 := ⟨f - 1, by omega⟩
    show x_places_50 fu σ (x_places_50L fu σ f) (some s) (nI c0) (nI k) = _
    have hle := plS_le _ _ _ _ _ hk hp
    unfold plS at hp
    have hc := h3 k
    rw [if_neg (by omega)] at hp
    unfold x_places_50 x_places_110
    rw [ckK_ok h1, h5 k (by omega), Option.bind_some]
    by_cases c2 : ch t k = 41
    · rw [if_pos c2] at hp
      have hp' := Option.some.inj hp
      have e1 : c = c0 := congrArg Prod.fst hp'
      have e2 : k = k0 := congrArg Prod.snd hp'
      subst e1
      subst e2
      have kl := kindS_lt (ch t (k + 1))
      rw [if_pos (show nI (ch t k) = (41 : Int32) by rw [c2]; rfl), nI_1, x_kindAt_ok hT' hK hk0, Option.bind_some, x_isTwo_ok (by omega), Option.bind_some]
      unfold rtS
      have e1024 : ∀ j : Nat, nI c + (1024 : Int32) * nI j = nI (c + 1024 * j) := fun j => by rw [show (1024 : Int32) * nI j = nI (1024 * j) from pk_mul 1024 j, nI_add]
      by_cases w : ch t (k + 1) = 86
      · rw [if_pos (show nI (kindS (ch t (k + 1))) = (9 : Int32) by rw [(kind9 _).mpr w]; rfl), ci_t w]
        exact congrArg some (e1024 0)
      · rw [if_neg (nL (k := 9) (by omega) (by omega) (fun y => w ((kind9 _).mp y))), ci_f w]
        by_cases y : TwoS (ch t (k + 1))
        · rw [ib_t ((kindS_two _).mpr y), ci_t y]
          exact congrArg some (e1024 2)
        · rw [ib_f (fun q => y ((kindS_two _).mp q)), ci_f y]
          exact congrArg some (e1024 1)
    · rw [if_neg c2] at hp
      rw [if_neg (nL (k := 41) (by omega) (by omega) c2), x_endOfType_ok hT' hK hk hfu, Option.bind_some]
      cases hft : ftS t k with
      | none => rw [hft] at hp; cases hp
      | some e =>
        rw [hft] at hp
        have hl := ftS_lt hft
        exact ih _ e f hl.2 (by omega) hp
theorem m_pl73 {t : List Nat} {s : Int32} (hT : mW t s τ) (hfu : 65536 < fu) {c0 k0 : Nat} (hk0 : k0 + 1 < t.length) (hc0 : placesS t = some c0) (h86 : ch t (k0 + 1) = 86 → k0 + 2 = t.length) : ∀ d c k f, k ≤ t.length → d ≤ f → plS t d c k = some (c0, k0) → m_places_73L fu f τ s (nI (t.length - 1)) (nI k) = some (nI (c0 + 1024 * rtS t k0), τ) := by
  have hT' := hT
  obtain ⟨h2, h3, h4, h5⟩ := hT
  intro d
  induction d with
  | zero => intro c k f _ _ h; cases h
  | succ d ih =>
    intro c k f hk hf hp
    obtain ⟨f, rfl⟩ : ∃ z9, f = z9 + 1 := ⟨f - 1, by omega⟩
    show m_places_73 fu (m_places_73L fu f) τ s (nI (t.length - 1)) (nI k) = _
    have hle := plS_le _ _ _ _ _ hk hp
    unfold plS at hp
    have hc := h3 k
    rw [if_neg (by omega)] at hp
    unfold m_places_73 m_places_128 m_places_145
    rw [h5 k (by omega), Option.bind_some]
    by_cases c2 : ch t k = 41
    · rw [if_pos c2] at hp
      have hp' := Option.some.inj hp
      have e1 : c = c0 := congrArg Prod.fst hp'
      have e2 : k = k0 := congrArg Prod.snd hp'
      subst e1
      subst e2
      have hc1 := h3 (t.length - 1)
      rw [if_pos (show nI (ch t k) = (41 : Int32) by rw [c2]; rfl), m_places0_ok hT' hfu hc0, Option.bind_some, h5 _ (by omega), Option.bind_some, nI_1, m_wide_ok hT' hk0, Option.bind_some]
      unfold rtS
      have e1024 : ∀ j : Nat, nI c + (1024 : Int32) * nI j = nI (c + 1024 * j) := fun j => by rw [show (1024 : Int32) * nI j = nI (1024 * j) from pk_mul 1024 j, nI_add]
      have two : ¬ ch t (k + 1) = 86 → (if bi (TwoS (ch t (k + 1))) = 0 then some (nI c + (1024 : Int32) * (1 : Int32), τ) else some (nI c + (1024 : Int32) * (2 : Int32), τ)) = some (nI (c + 1024 * ci (ch t (k + 1) = 86) 0 (ci (TwoS (ch t (k + 1))) 2 1)), τ) := fun w => by
        rw [ci_f w]
        by_cases y : TwoS (ch t (k + 1))
        · rw [ib_t y, ci_t y]
          exact congrArg (fun z => some (z, τ)) (e1024 2)
        · rw [ib_f y, ci_f y]
          exact congrArg (fun z => some (z, τ)) (e1024 1)
      by_cases w : ch t (k + 1) = 86
      · have := h86 w
        have el : t.length - 1 = k + 1 := by omega
        rw [el, if_pos (show nI (ch t (k + 1)) = (86 : Int32) by rw [w]; rfl), if_pos rfl, ci_t w]
        exact congrArg (fun z => some (z, τ)) (e1024 0)
      · by_cases v : ch t (t.length - 1) = 86
        · rw [if_pos (show nI (ch t (t.length - 1)) = (86 : Int32) by rw [v]; rfl), if_neg (fun y => by
            have := (nI_eq (by omega) (by omega)).mp y
            rw [this] at v
            exact w v)]
          exact two w
        · rw [if_neg (nL (k := 86) (by omega) (by omega) v)]
          exact two w
    · rw [if_neg c2] at hp
      rw [if_neg (nL (k := 41) (by omega) (by omega) c2), m_fieldText_ok hT' hk hfu, Option.bind_some]
      cases hft : ftS t k with
      | none => rw [hft] at hp; cases hp
      | some e =>
        rw [hft] at hp
        have hl := ftS_lt hft
        exact ih _ e f hl.2 (by omega) hp
theorem ftS_86 {t : List Nat} {k e : Nat} (hk : k < t.length) (h : ftS t k = some e) : ch t k ≠ 86 := fun w => by
  have hb : brkS t (t.length - k) k = k := by
    obtain ⟨d, hd⟩ : ∃ d, t.length - k = d + 1 := ⟨t.length - k - 1, by omega⟩
    rw [hd]
    unfold brkS
    rw [if_neg (by omega)]
  unfold ftS at h
  rw [hb, if_neg (by omega), if_neg (by omega), if_pos (by rw [w]; decide), if_neg (by omega)] at h
  cases h
theorem q_places (hfu : 131072 < fu) (hL : xLi N σ) (g : FO F n K.1) (hx : xKc T F n K x0 c lo B N σ) (hm : mKc F n K M S τ) (v : Int32) : ∃ r, x_places fu σ x0 v = some r ∧ m_places fu τ v = some (r, sf τ 0 0) := by
  have hm0 := hm.t0 (v := 0)
  have nl := hm0.nl
  obtain ⟨-, -, pP, -⟩ := hm0
  have pP : mPo (pK F n K) M S (sf τ 0 0) := pP
  have hPG : PG (pK F n K) := g.1
  have hc := ctP_lt (pK F n K)
  have k0 := hx.1
  have hK := hL.k (fu := fu) (by omega)
  unfold x_places x_places_0 m_places m_places_0
  rw [nx_eq, ckT_ok k0, if_neg nl]
  rcases x_textOf_ok g hx v with ⟨k, s, hk, rfl, ht, e, s2, s3, s4⟩ | ⟨hv, e⟩
  case inr =>
    obtain ⟨t, t1, t2⟩ := m_noText pP hPG hv
    exact ⟨-1, by rw [e]; rfl, by rw [t1, Option.bind_some, if_neg t2]⟩
  obtain ⟨s', y1, y2, y3, y4⟩ := m_sym pP hPG ht
  have hT := s2.toxT
  rw [e, Option.bind_some, if_neg snn, m_tag_ok pP hPG (by omega), Option.bind_some, if_pos (show nI (tgP (pK F n K) k) = (1 : Int32) by rw [ht]; rfl), y1, Option.bind_some, ckR_ok, x_isFieldType_ok hT hK (by omega), Option.bind_some, m_isField_ok y4 (by omega), Option.bind_some]
  generalize txP (pK F n K) k = t at *
  by_cases hf : FieldS t
  · have l1 := (ftS_lt (show ftS t 0 = some t.length from hf)).1
    have kl := kindS_lt (ch t 0)
    rw [ib_t hf, ib_t hf, show x_kindAt fu σ s (0 : Int32) = _ from x_kindAt_ok (k := 0) hT hK l1, Option.bind_some, x_isTwo_ok (by omega), Option.bind_some, show m_wide (sf τ 0 0) (nI s') (0 : Int32) = _ from m_wide_ok (k := 0) y4 l1, Option.bind_some]
    by_cases y : TwoS (ch t 0)
    · exact ⟨2, by rw [ib_t ((kindS_two _).mpr y)], by rw [ib_t y]⟩
    · exact ⟨1, by rw [ib_f (fun q => y ((kindS_two _).mp q))], by rw [ib_f y]⟩
  rw [ib_f hf, ib_f hf, x_placesOf_ok hT hK (by omega), Option.bind_some, m_isMethod_ok y4 (by omega), Option.bind_some]
  cases hp : placesS t with
  | none => exact ⟨-1, rfl, by rw [ib_f (fun w => w rfl)]⟩
  | some c0 =>
    obtain ⟨-, k1, p1, p2, p3⟩ := placesS_pl hp
    have pl := placesS_le hp
    have hk1 : k1 + 1 < t.length := by
      rcases p3 with w | w
      · omega
      · exact (ftS_lt w).1
    have h86 : ch t (k1 + 1) = 86 → k1 + 2 = t.length := fun w => by
      rcases p3 with z | z
      · exact z.1
      · exact absurd w (ftS_86 hk1 z)
    have tl := hT.2.1
    refine ⟨nI (c0 + 1024 * rtS t k1), ?_, ?_⟩
    · show (if (0 : Int32) ≤ nI c0 then _ else _) = _
      rw [if_pos (nI_pos' (by omega))]
      exact x_pl50 hT hK (by omega) hk1 t.length 0 1 fu (by omega) (by omega) p1
    · rw [ib_t (fun w => by cases w), y4.2.2.1, Option.bind_some, nx_eq, show nI t.length - (1 : Int32) = nI (t.length - 1) from pk_sub (b := 1) (by omega)]
      exact m_pl73 y4 (by omega) hk1 hp h86 t.length 0 1 fu (by omega) (by omega) p1
end Qry2
