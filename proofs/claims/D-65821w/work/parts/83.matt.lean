/-! attributes one after the other: the twin -/
section MAtt
set_option maxRecDepth 100000
variable {P : PD} {N fu : Nat} {S : Nat → List Nat} {σ : SM}
def mCA {α : Type} (L A : List Nat) (E : FE α) (q : Nat) (Q : α → SM → Prop) (σ : SM) (o : Option (Int32 × SM)) : Prop := match E with
  | .error e => ∃ σ', o = some (-1, σ') ∧ σ'.1 47 = nI e.1 ∧ σ'.1 48 = nI e.2 ∧ mfr L A σ σ'
  | .ok a => ∃ σ', o = some (nI q, σ') ∧ Q a σ' ∧ mfr L A σ σ'
theorem mCA.fr {α : Type} {L A : List Nat} {E : FE α} {q : Nat} {Q : α → SM → Prop} {σ1 : SM} {o : Option (Int32 × SM)} (h : mfr L A σ σ1) (k : mCA L A E q Q σ1 o) : mCA L A E q Q σ o := by
  cases E with
  | error e =>
    obtain ⟨s, k1, k2, k3, k4⟩ := k
    exact ⟨s, k1, k2, k3, h.tr k4⟩
  | ok a =>
    obtain ⟨s, k1, k2, k3⟩ := k
    exact ⟨s, k1, k2, h.tr k3⟩
theorem mCA.er {α : Type} {L A : List Nat} {q r p : Nat} {Q : α → SM → Prop} (h1 : 47 ∈ L) (h2 : 48 ∈ L) : mCA L A (.error (r, p) : FE α) q Q σ (some (-1, mwr σ r p)) :=
  ⟨_, rfl, (sf_ne (by decide)).trans sf_eq, sf_eq, (mfr.sf h1).tr (mfr.sf h2)⟩
/-- what one kind of owner needs -/
def mStp (P : PD) (N : Nat) (S : Nat → List Nat) (fu wh x : Nat) (fin : Prop) (fl : Nat) (d : List Nat) (np : Nat) (L A : List Nat) (I : (Nat → Nat) → Nat → SM → Prop) : Prop :=
  (47 ∈ L ∧ 48 ∈ L ∧ (∀ σ σ', mfr L A σ σ' → mPo P N S σ → mPo P N S σ') ∧ ∀ σ σ', mfr L A σ σ' → mKn σ → mKn σ') ∧
  (∀ a s σ, I a s σ → ∃ σ1, mfr L A σ σ1 ∧ I (uA a 0 (a 0 + 1)) s σ1 ∧ ∀ k18 x4 x5 x6 x7 x8 w, w ≠ 0 → kEnd fu k18 σ (nI (wh + 1)) (nI x) x4 x5 x6 x7 x8 w = m_checkAttributes_190 fu k18 σ1 (nI (wh + 1)) (nI x) x4 x5 x6 x7 x8 (nI (w - 1))) ∧
  ∀ a s σ w pl p len, s < 2048 → 1 ≤ w → w ≤ 10 → (∃ t, w = knS (mjP P) wh t) → mPo P N S σ → mKn σ → I a s σ → 1 ≤ p → p + len ≤ P.2.1 → s.testBit (w - 1) = false → mAt L A pl (atS P fin fl d np w pl p len a) (fun a' σ' => I a' (s ||| 2 ^ (w - 1)) σ') σ (m_attribute fu σ (nI (w - 1)) (nI pl) (nI p) (nI (p + len)) (nI x) (nI s))
theorem m_att {wh x fl np q : Nat} {fin : Prop} {d : List Nat} {L A : List Nat} {I : (Nat → Nat) → Nat → SM → Prop} (g : PG P) (hfu : 131072 < fu) (hwh : wh ≤ 3) (hS : mStp P N S fu wh x fin fl d np L A I) : ∀ k f p i s a σ, k < f → i + k < 70000 → s < 2048 → mPo P N S σ → mKn σ → I a s σ → skA P.1 P.2.1 k p = .ok q →
    mCA L A (attsS P wh fin fl d np k p s a) q (fun a' σ' => ∃ s', I a' s' σ') σ (m_checkAttributes_18L fu f σ (nI (wh + 1)) (nI x) (nI (i + k)) (nI p) (nI s) (nI i)) := by
  have hn := g.1
  obtain ⟨⟨m47, m48, hPo, hKn⟩, hS1, hS2⟩ := hS
  intro k
  induction k with
  | zero =>
    intro f p i s a σ hf hi hs h hK hI hq
    obtain ⟨f, rfl⟩ : ∃ z9, f = z9 + 1 := ⟨f - 1, by omega⟩
    show mCA _ _ _ _ _ _ (m_checkAttributes_18 fu (m_checkAttributes_18L fu f) σ (nI (wh + 1)) (nI x) (nI (i + 0)) (nI p) (nI s) (nI i))
    unfold m_checkAttributes_18 attsS
    cases hq
    rw [if_pos (nI_le (by omega) (by omega))]
    exact ⟨σ, rfl, ⟨s, hI⟩, mfr.rf⟩
  | succ k ih =>
    intro f p i s a σ hf hi hs h hK hI hq
    obtain ⟨f, rfl⟩ : ∃ z9, f = z9 + 1 := ⟨f - 1, by omega⟩
    obtain ⟨h1, h2⟩ := skA_su hq
    have hu := U2_lt P.1 p
    have ht := tgP_lt P (U2 P.1 p)
    show mCA _ _ _ _ _ _ (m_checkAttributes_18 fu (m_checkAttributes_18L fu f) σ (nI (wh + 1)) (nI x) (nI (i + (k + 1))) (nI p) (nI s) (nI i))
    unfold m_checkAttributes_18 attsS
    rw [if_neg (nI_ge (by omega) (by omega)), nI_2, m_u4_ok h.1.1 (by omega), Option.bind_some, nx_eq, lN_i', m_u2_ok h.1.1 (by omega), Option.bind_some, m_tag_ok h g hu, Option.bind_some]
    by_cases q1 : tgP P (U2 P.1 p) = 1
    case neg =>
      rw [if_neg (nL (k := 1) (by omega) (by omega) q1), if_neg q1, m_wrN 28, Option.bind_some]
      exact mCA.er m47 m48
    obtain ⟨s', s1, s2, s3, s4⟩ := m_sym h g q1
    rw [if_pos (show nI (tgP P (U2 P.1 p)) = (1 : Int32) by rw [q1]; rfl), if_pos q1, Option.bind_some, s1, Option.bind_some, m_kn_ok hK h.1.2.2.2 (mjP_lt P) hwh s4 (by omega)]
    have kl := (knS_le (mjP P) wh (txP P (U2 P.1 p))).1
    have hw : ∃ t, knS (mjP P) wh (txP P (U2 P.1 p)) = knS (mjP P) wh t := ⟨_, rfl⟩
    generalize knS (mjP P) wh (txP P (U2 P.1 p)) = w at kl hw ⊢
    have nxt : ∀ s' a' σ', s' < 2048 → mfr L A σ σ' → I a' s' σ' → mCA L A (attsS P wh fin fl d np k (p + 6 + U4 P.1 (p + 2)) s' a') q (fun a' σ' => ∃ s', I a' s' σ') σ' (m_checkAttributes_268 fu (m_checkAttributes_18L fu f) σ' (nI (wh + 1)) (nI x) (nI (i + (k + 1))) (nI p) (nI s') (nI i) (nI (U4 P.1 (p + 2)))) := fun s' a' σ' w1 w2 w3 => by
      unfold m_checkAttributes_268
      rw [nx_eq, nx_eq, nI_1, nI_add' 6, nI_add, show p + (6 + U4 P.1 (p + 2)) = p + 6 + U4 P.1 (p + 2) by omega]
      have := ih f (p + 6 + U4 P.1 (p + 2)) (i + 1) s' a' σ' (by omega) (by omega) w1 (hPo _ _ w2 h) (hKn _ _ w2 hK) w3 h2
      rw [show i + 1 + k = i + (k + 1) by omega] at this
      exact this
    by_cases w0 : w = 0
    · unfold kEnd
      rw [if_pos w0, if_pos w0]
      exact nxt s a σ hs mfr.rf hI
    obtain ⟨σ1, f1, I1, e1⟩ := hS1 a s σ hI
    rw [e1 _ _ _ _ _ _ w w0, if_neg w0]
    refine mCA.fr f1 ?_
    have h1' := hPo _ _ f1 h
    have hK1 := hKn _ _ f1 hK
    unfold m_checkAttributes_190 m_checkAttributes_261
    by_cases hb : s.testBit (w - 1) = true
    · rw [if_pos ((bt1 (by omega) hs).mpr hb), if_pos hb, m_wrN 29, Option.bind_some]
      exact mCA.er m47 m48
    rw [if_neg (fun z => hb ((bt1 (by omega) hs).mp z)), if_neg hb, nI_6, nI_add]
    have hA := hS2 (uA a 0 (a 0 + 1)) s σ1 w p (p + 6) (U4 P.1 (p + 2)) hs (by omega) kl hw h1' hK1 I1 (by omega) (by omega) (by cases hz : s.testBit (w - 1) with | true => exact absurd hz hb | false => rfl)
    revert hA
    cases atS P fin fl d np w p (p + 6) (U4 P.1 (p + 2)) (uA a 0 (a 0 + 1)) with
    | error er =>
      rintro ⟨σ2, f2, ⟨a1, a2, a3, a4⟩ | ⟨a1, a2, a3⟩⟩
      · rw [a1, Option.bind_some, nx_eq, nx_eq, if_neg (show ¬ (nI er.1, σ2).1 ≤ 0 from nI_ge (a := 0) (by omega) (by omega)), m_wrong_ok, Option.bind_some, if_neg (show ¬ (nI er.1, σ2).1 = 0 from nL (k := 0) (by omega) (by omega) (by omega))]
        refine mCA.fr f2 ?_
        have : (p : Nat) = er.2 := a2.symm
        rw [this]
        exact mCA.er (r := er.1) (p := er.2) m47 m48
      · rw [a1, Option.bind_some, nx_eq, nx_eq, if_pos (show ((-1 : Int32), σ2).1 ≤ 0 from (by decide : (-1 : Int32) ≤ 0)), if_neg (show ¬ ((-1 : Int32), σ2).1 = 0 from (by decide : ¬ (-1 : Int32) = 0))]
        exact ⟨σ2, rfl, a2, a3, f2⟩
    | ok a' =>
      rintro ⟨σ2, a1, a2, f2⟩
      rw [a1, Option.bind_some, nx_eq, nx_eq, if_pos (show ((0 : Int32), σ2).1 ≤ 0 from (by decide : (0 : Int32) ≤ 0)), if_pos (show ((0 : Int32), σ2).1 = 0 from rfl), bt2 (by omega), eb_ok]
      exact (nxt (s ||| 2 ^ (w - 1)) a' σ2 (bt3 hs (by omega)) (f1.tr f2) a2).fr f2
theorem m_att_ok {wh x fl np p q : Nat} {fin : Prop} {d : List Nat} {L A : List Nat} {I : (Nat → Nat) → Nat → SM → Prop} {a : Nat → Nat} (g : PG P) (hfu : 131072 < fu) (hwh : wh ≤ 3) (hS : mStp P N S fu wh x fin fl d np L A I) (h : mPo P N S σ) (hK : mKn σ) (hI : I a 0 σ) (hp : p + 2 ≤ P.2.1) (hq : skA P.1 P.2.1 (U2 P.1 p) (p + 2) = .ok q) :
    mCA L A (attsS P wh fin fl d np (U2 P.1 p) (p + 2) 0 a) q (fun a' σ' => ∃ s', I a' s' σ') σ (m_checkAttributes fu σ (nI p) (nI (wh + 1)) (nI x)) := by
  have hu := U2_lt P.1 p
  unfold m_checkAttributes m_checkAttributes_0
  rw [m_u2_ok h.1.1 hp, Option.bind_some, nx_eq, nI_2]
  have := m_att (fu := fu) (q := q) g hfu hwh hS (U2 P.1 p) fu (p + 2) 0 0 a σ (by omega) (by omega) (by decide) h hK hI hq
  rw [Nat.zero_add] at this
  exact this
section Own
variable {x : Nat}
theorem xadd1 {a : Nat} : nI a + (1 : Int32) = nI (a + 1) := nI_1 a
/-- a field's attributes -/
def mI0 (x : Nat) (σ0 : SM) (a : Nat → Nat) (_ : Nat) (σ : SM) : Prop := (σ.2 31 x = nI (a 0) ∧ σ.2 30 x = nI (a 1)) ∧ mNx [30, 31] x σ0 σ ∧ mfr [47, 48] [30, 31] σ0 σ
theorem m_a175 {t0 : Int32} {p x : Nat} {W : Prop} (h : mPo P N S σ) (g : PG P) (hp : p + 2 ≤ P.2.1) (hx : x < 8300) (hW : nI (tgP P (U2 P.1 p)) = t0 ↔ W) : m_attribute_175 fu σ (nI p) (nI x) t0 = ci W (some ((0 : Int32), sa σ 30 x (nI (U2 P.1 p)))) (some ((31 : Int32), σ)) := by
  unfold m_attribute_175
  rw [m_u2_ok h.1.1 hp, Option.bind_some, m_tag_ok h g (U2_lt _ _), Option.bind_some, Option.bind_some, ckIn_n hx (by omega), nx_eq, nI_clamp (by omega)]
  by_cases w : W
  · rw [if_pos (hW.mpr w), ci_t w]
  · rw [if_neg (fun z => w (hW.mp z)), ci_f w]
theorem m_const_ok {d : List Nat} {s pl p len fl x : Nat} {x6 : Int32} (h : mPo P N S σ) (g : PG P) (hfu : 131072 < fu) (hx : x < 8300) (hd : mW d (nI s) σ) (hd1 : 1 ≤ d.length) (h29 : σ.2 29 x = nI s) (h27 : σ.2 27 x = nI fl) (hp : p + len ≤ P.2.1) (h2 : len = 2) (hst : ¬ (nI fl &&& (8 : Int32)) = 0) : m_attribute fu σ (nI 0) (nI pl) (nI p) (nI (p + len)) (nI x) x6 = ci (cokP P d (U2 P.1 p)) (some ((0 : Int32), sa σ 30 x (nI (U2 P.1 p)))) (some ((31 : Int32), σ)) := by
  have hn := g.1
  have tl := tgP_lt P (U2 P.1 p)
  unfold m_attribute m_attribute_0
  rw [if_pos (show nI 0 = (0 : Int32) from rfl), pk_sub (by omega), if_pos (show nI (p + len - p) = (2 : Int32) by rw [h2, show p + 2 - p = 2 by omega]; rfl), ckIn_n hx (by omega), nI_clamp (by omega), h27, if_neg hst, ckIn_n hx (by omega), h29, show m_at σ (nI s) (0 : Int32) = some (nI (ch d 0)) from hd.2.2.2 0 (by omega), Option.bind_some, ckIn_n hx (by omega), m_is_ok hd (by omega) (by omega), Option.bind_some]
  have c0 := hd.2.1 0
  have kk : ∀ k : Nat, k < 256 → (nI (tgP P (U2 P.1 p)) = nI k ↔ tgP P (U2 P.1 p) = k) := fun k hk => nI_eq (by omega) (by omega)
  have neg : (nI (tgP P (U2 P.1 p)) = (-1 : Int32)) ↔ False := ⟨fun z => by
    have : (0 : Int32) ≤ nI (tgP P (U2 P.1 p)) := nI_pos' (by omega)
    rw [z] at this
    exact absurd this (by decide), fun z => z.elim⟩
  have go : ∀ (t0 : Int32) (W : Prop), (nI (tgP P (U2 P.1 p)) = t0 ↔ W) → m_attribute_175 fu σ (nI p) (nI x) t0 = ci W (some ((0 : Int32), sa σ 30 x (nI (U2 P.1 p)))) (some ((31 : Int32), σ)) := fun t0 W hW => m_a175 h g (by omega) hx hW
  rw [go 5 _ (kk 5 (by omega)), go 4 _ (kk 4 (by omega)), go 6 _ (kk 6 (by omega)), go (-1) _ neg, go 8 _ (kk 8 (by omega)), go 3 _ (kk 3 (by omega))]
  unfold cokP
  generalize ch d 0 = c at *
  by_cases c1 : c = 74
  · rw [if_pos (show nI c = (74 : Int32) by rw [c1]; rfl), if_pos c1]
  rw [if_neg (nL (k := 74) (by omega) (by omega) c1), if_neg c1]
  by_cases c2 : c = 70
  · rw [if_pos (show nI c = (70 : Int32) by rw [c2]; rfl), if_pos c2]
  rw [if_neg (nL (k := 70) (by omega) (by omega) c2), if_neg c2]
  by_cases c3 : c = 68
  · rw [if_pos (show nI c = (68 : Int32) by rw [c3]; rfl), if_pos c3]
  rw [if_neg (nL (k := 68) (by omega) (by omega) c3), if_neg c3]
  by_cases c4 : c = 76
  · rw [if_pos (show nI c = (76 : Int32) by rw [c4]; rfl), if_pos c4]
    by_cases e : d = lT 13
    · rw [ib_t e, show (d = lT 13 ∧ tgP P (U2 P.1 p) = 8) = (tgP P (U2 P.1 p) = 8) from propext (and_iff_right e)]
    · rw [ib_f e, ci_f (show ¬ False from id), ci_f (fun w => e w.1)]
  rw [if_neg (nL (k := 76) (by omega) (by omega) c4), if_neg c4]
  by_cases c5 : c = 91
  · rw [if_pos (show nI c = (91 : Int32) by rw [c5]; rfl), if_pos c5]
  · rw [if_neg (nL (k := 91) (by omega) (by omega) c5), if_neg c5]
theorem mStp0 {fl np x : Nat} {fin : Prop} {d : List Nat} {σ0 : SM} (g : PG P) (hfu : 131072 < fu) (hx : x < 8300) (h27 : σ0.2 27 x = nI fl) (h29 : ∃ s, s < N ∧ σ0.2 29 x = nI s ∧ S s = d) (hd : 1 ≤ d.length) : mStp P N S fu 0 x fin fl d np [47, 48] [30, 31] (mI0 x σ0) := by
  have hn := g.1
  refine ⟨⟨by decide, by decide, fun _ _ f h => h.fr f (by decide) (by decide), fun _ _ f h => h.fr f (by decide) (by decide)⟩, ?_, ?_⟩
  · rintro a s σ ⟨⟨a1, a2⟩, a3, a4⟩
    have f1 : mfr [47, 48] [30, 31] σ (sa σ 31 x (nI (a 0 + 1))) := mfr.sa (by decide)
    refine ⟨sa σ 31 x (nI (a 0 + 1)), f1, ⟨⟨sa_eq, ?_⟩, a3.tr mNx.sa, a4.tr f1⟩, fun k18 x4 x5 x6 x7 x8 w hw => ?_⟩
    · rw [sa_nk (by decide), a2]
      rfl
    · unfold kEnd m_checkAttributes_160 m_checkAttributes_175
      rw [if_neg hw, if_pos (show nI (0 + 1) = (1 : Int32) from rfl), ckIn_n hx (by omega), ckIn_n hx (by omega), nx_eq, nI_clamp (by omega), a1, xadd1, if_neg (show ¬ nI (0 + 1) = (2 : Int32) by decide), if_neg (show ¬ nI (0 + 1) = (4 : Int32) by decide)]
  · rintro a s σ w pl p len hs w1 w10 ⟨t, hw⟩ h hK ⟨⟨a1, a2⟩, a3, a4⟩ hp1 hp hb
    obtain rfl : w = 1 := by
      have := (knS_le (mjP P) 0 t).2.1 rfl
      omega
    obtain ⟨s', b1, b2, b3⟩ := h29
    have hD : mW d (nI s') σ := by rw [← b3]; exact h.2.1.1.mW b1
    have e27 : σ.2 27 x = nI fl := by rw [a4.2 27 (by decide)]; exact h27
    have e29 : σ.2 29 x = nI s' := by rw [a4.2 29 (by decide)]; exact b2
    unfold atS
    rw [if_pos rfl]
    show mAt _ _ _ _ _ _ (m_attribute fu σ (nI 0) (nI pl) (nI p) (nI (p + len)) (nI x) (nI s))
    by_cases hl : len = 2
    case neg =>
      rw [if_neg hl]
      unfold m_attribute m_attribute_0
      rw [if_pos (show nI 0 = (0 : Int32) from rfl), pk_sub (by omega), if_neg (nL (k := 2) (by omega) (by omega) (by omega))]
      exact mAt.er (by omega)
    rw [if_pos hl]
    by_cases hst : (nI fl &&& (8 : Int32)) = 0
    · rw [if_pos hst]
      unfold m_attribute m_attribute_0
      rw [if_pos (show nI 0 = (0 : Int32) from rfl), pk_sub (by omega), if_pos (show nI (p + len - p) = (2 : Int32) by rw [hl, show p + 2 - p = 2 by omega]; rfl), ckIn_n hx (by omega), nI_clamp (by omega), e27, if_pos hst]
      exact ⟨σ, rfl, ⟨⟨a1, a2⟩, a3, a4⟩, mfr.rf⟩
    rw [if_neg hst, m_const_ok h g hfu hx hD hd e29 e27 hp hl hst]
    by_cases hc : cokP P d (U2 P.1 p)
    · rw [ci_t hc, ci_t hc]
      have f1 : mfr [47, 48] [30, 31] σ (sa σ 30 x (nI (U2 P.1 p))) := mfr.sa (by decide)
      exact ⟨_, rfl, ⟨⟨by rw [sa_nk (by decide), a1]; rfl, sa_eq⟩, a3.tr mNx.sa, a4.tr f1⟩, f1⟩
    · rw [ci_f hc, ci_f hc]
      exact mAt.er (by omega)
end Own
end MAtt
