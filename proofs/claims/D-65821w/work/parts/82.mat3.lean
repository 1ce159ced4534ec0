/-! Code: the twin -/
section MAt3
set_option maxRecDepth 100000
variable {P : PD} {N fu : Nat} {S : Nat → List Nat} {σ : SM}
def mE3 {α : Type} (σ : SM) (E : FE α) (q : Nat) : Option (Int32 × SM) := match E with
  | .ok _ => some (nI q, σ)
  | .error e => some (-1, mwr σ e.1 e.2)
theorem m_atn {x3 : Int32} {q : Nat} (h : mPo P N S σ) (g : PG P) (hK : mKn σ) (hfu : 131072 < fu) : ∀ k f p i s sx, k < f → i + k < 70000 → sx < 2048 → sx.testBit 3 = s → skA P.1 P.2.1 k p = .ok q → m_checkAttributes_b_18L fu f σ (3 : Int32) x3 (nI (i + k)) (nI p) (nI sx) (nI i) = mE3 σ (atN P k p s) q := by
  have hn := g.1
  intro k
  induction k with
  | zero =>
    intro f p i s sx hf hi hsx hs hq
    obtain ⟨f, rfl⟩ : ∃ z9, f = z9 + 1 := ⟨f - 1, by omega⟩
    show m_checkAttributes_b_18 fu (m_checkAttributes_b_18L fu f) σ (3 : Int32) x3 (nI (i + 0)) (nI p) (nI sx) (nI i) = _
    unfold m_checkAttributes_b_18 atN
    cases hq
    rw [if_pos (nI_le (by omega) (by omega))]
    rfl
  | succ k ih =>
    intro f p i s sx hf hi hsx hs hq
    obtain ⟨f, rfl⟩ : ∃ z9, f = z9 + 1 := ⟨f - 1, by omega⟩
    obtain ⟨h1, h2⟩ := skA_su hq
    have hu := U2_lt P.1 p
    have ht := tgP_lt P (U2 P.1 p)
    show m_checkAttributes_b_18 fu (m_checkAttributes_b_18L fu f) σ (3 : Int32) x3 (nI (i + (k + 1))) (nI p) (nI sx) (nI i) = _
    unfold m_checkAttributes_b_18 atN
    rw [if_neg (nI_ge (by omega) (by omega)), nI_2, m_u4_ok h.1.1 (by omega), Option.bind_some, nx_eq, lN_i', m_u2_ok h.1.1 (by omega), Option.bind_some, m_tag_ok h g hu, Option.bind_some]
    by_cases q1 : tgP P (U2 P.1 p) = 1
    case neg =>
      rw [if_neg (nL (k := 1) (by omega) (by omega) q1), if_neg q1, m_wrN 28, Option.bind_some]
      rfl
    obtain ⟨s', s1, s2, s3, s4⟩ := m_sym h g q1
    rw [if_pos (show nI (tgP P (U2 P.1 p)) = (1 : Int32) by rw [q1]; rfl), if_pos q1, Option.bind_some, s1, Option.bind_some, show m_checkAttributes_b_79L fu (m_checkAttributes_b_18L fu f) fu σ (3 : Int32) x3 (nI (i + (k + 1))) (nI p) (nI sx) (nI i) (nI (U4 P.1 (p + 2))) (nI s') (-1 : Int32) (0 : Int32) = _ from m_kn_ok_b (wh := 2) hK h.1.2.2.2 (mjP_lt P) (by omega) s4 (by omega)]
    have kl := (knS_le (mjP P) 2 (txP P (U2 P.1 p))).2.2.2.1 rfl
    generalize knS (mjP P) 2 (txP P (U2 P.1 p)) = w at kl ⊢
    have nxt : ∀ s' sx', sx' < 2048 → sx'.testBit 3 = s' → m_checkAttributes_b_268 fu (m_checkAttributes_b_18L fu f) σ (3 : Int32) x3 (nI (i + (k + 1))) (nI p) (nI sx') (nI i) (nI (U4 P.1 (p + 2))) = mE3 σ (atN P k (p + 6 + U4 P.1 (p + 2)) s') q := fun s' sx' w1 w2 => by
      unfold m_checkAttributes_b_268
      rw [nx_eq, nx_eq, nI_1, nI_add' 6, nI_add, show p + (6 + U4 P.1 (p + 2)) = p + 6 + U4 P.1 (p + 2) by omega]
      have := ih f (p + 6 + U4 P.1 (p + 2)) (i + 1) s' sx' (by omega) (by omega) w1 w2 h2
      rw [show i + 1 + k = i + (k + 1) by omega] at this
      exact this
    unfold kEnd_b
    by_cases w0 : w = 0
    · rw [if_pos w0, if_pos w0]
      exact nxt s sx hsx hs
    obtain rfl : w = 4 := by omega
    rw [if_neg w0, if_neg w0, if_neg (show ¬ nI (2 + 1) = (1 : Int32) by decide)]
    unfold m_checkAttributes_b_160 m_checkAttributes_b_175 m_checkAttributes_b_190 m_checkAttributes_b_261
    rw [if_neg (show ¬ nI (2 + 1) = (2 : Int32) by decide), if_neg (show ¬ nI (2 + 1) = (4 : Int32) by decide)]
    by_cases hb : sx.testBit 3 = true
    · rw [if_pos ((bt1 (v := 3) (by omega) hsx).mpr hb), if_pos (hs.symm.trans hb), m_wrN 29, Option.bind_some]
      rfl
    have e : nI sx ||| ((1 : Int32) <<< (nI 3 &&& 31)) = nI (sx ||| 2 ^ 3) := bt2 (by omega)
    have e4 : ∀ x2 x3 x4 x5 x6 : Int32, m_attribute_b fu σ (nI 3) x2 x3 x4 x5 x6 = some (0, σ) := fun _ _ _ _ _ => rfl
    show (if ((nI sx >>> (nI 3 &&& 31)) &&& (1 : Int32)) = (1 : Int32) then _ else _) = _
    rw [if_neg (fun z => hb ((bt1 (by omega) hsx).mp z)), if_neg (fun z => hb (hs.trans z)), show nI (4 - 1) = nI 3 from rfl, e4, Option.bind_some, nx_eq, nx_eq, if_pos (show ((0 : Int32), σ).1 ≤ 0 from (by decide : (0 : Int32) ≤ 0)), if_pos rfl, e]
    exact nxt true _ (bt3 hsx (by omega)) tb_eq
theorem m_atn_ok {p q : Nat} {x3 : Int32} (h : mPo P N S σ) (g : PG P) (hK : mKn σ) (hfu : 131072 < fu) (hp : p + 2 ≤ P.2.1) (hq : skA P.1 P.2.1 (U2 P.1 p) (p + 2) = .ok q) : m_checkAttributes_b fu σ (nI p) (3 : Int32) x3 = mE3 σ (atN P (U2 P.1 p) (p + 2) false) q := by
  have hn := g.1
  have hu := U2_lt P.1 p
  unfold m_checkAttributes_b m_checkAttributes_b_0
  rw [m_u2_ok h.1.1 hp, Option.bind_some, nx_eq, nI_2]
  have := m_atn (fu := fu) (x3 := x3) h g hK hfu (U2 P.1 p) fu (p + 2) 0 false 0 (by omega) (by omega) (by decide) (by decide) hq
  rw [Nat.zero_add] at this
  exact this
/-- the twin's method with code -/
def mCd (F : Nat → Int32) (x p : Nat) (σ : SM) : Prop := p ≤ 1300 ∧ σ.2 37 x = nI (p + 8) ∧ σ.2 38 x = nI (U4 F (p + 4)) ∧ σ.2 39 x = nI (U2 F p) ∧ σ.2 40 x = nI (U2 F (p + 2)) ∧ σ.2 41 x = nI (p + 8 + U4 F (p + 4) + 2) ∧ σ.2 42 x = nI (U2 F (p + 8 + U4 F (p + 4)))
/-- other members stay -/
def mNx (A : List Nat) (x : Nat) (σ σ' : SM) : Prop := ∀ k, k ∈ A → ∀ j, j ≠ x → σ'.2 k j = σ.2 k j
theorem mNx.rf {A : List Nat} {x : Nat} {σ : SM} : mNx A x σ σ := fun _ _ _ _ => rfl
theorem mNx.tr {A : List Nat} {x : Nat} {σ σ1 σ2 : SM} (h : mNx A x σ σ1) (h2 : mNx A x σ1 σ2) : mNx A x σ σ2 := fun k hk j hj => (h2 k hk j hj).trans (h k hk j hj)
theorem mNx.sa {A : List Nat} {x k : Nat} {v : Int32} {σ : SM} : mNx A x σ (sa σ k x v) := fun k' _ j hj => by
  by_cases e : k' = k
  · subst e
    exact sa_ne hj
  · rw [sa_nk e]
theorem mNx.sf {A : List Nat} {x k : Nat} {v : Int32} {σ : SM} : mNx A x σ (sf σ k v) := fun _ _ _ _ => rfl
abbrev cdA : List Nat := [37, 38, 39, 40, 41, 42]
theorem m_cd250 {p sz rows x tail q pl : Nat} (h : mPo P N S σ) (g : PG P) (hK : mKn σ) (hfu : 131072 < fu) (hx : x < 8300) (hsz : sz ≤ 65535) (hp : p + 8 ≤ P.2.1) (hr : p + 8 + sz + 2 + 8 * rows = tail) (ht : tail + 2 ≤ P.2.1) (hq : skA P.1 P.2.1 (U2 P.1 tail) (tail + 2) = .ok q) : ∀ d k f, k + d = rows → d < f →
    mAt [47, 48] cdA pl (ci (∀ i, k ≤ i → i < rows → rowP P sz (p + 8 + sz + 2 + 8 * i)) (atN P (U2 P.1 tail) (tail + 2) false) (.error (43, pl))) (fun _ σ' => (σ'.2 37 x = nI (p + 8) ∧ σ'.2 38 x = nI sz ∧ σ'.2 39 x = nI (U2 P.1 p) ∧ σ'.2 40 x = nI (U2 P.1 (p + 2)) ∧ σ'.2 41 x = nI (p + 8 + sz + 2) ∧ σ'.2 42 x = nI rows) ∧ mNx cdA x σ σ') σ (m_code_250L fu f σ (nI p) (nI x) (lN sz) (nI rows) (nI (p + 8 + sz + 2)) (nI tail) (nI k)) := by
  have hn := g.1
  intro d
  induction d with
  | zero =>
    intro k f hk hf
    obtain ⟨f, rfl⟩ : ∃ z9, f = z9 + 1 := ⟨f - 1, by omega⟩
    show mAt _ _ _ _ _ _ (m_code_250 fu (m_code_250L fu f) σ (nI p) (nI x) (lN sz) (nI rows) (nI (p + 8 + sz + 2)) (nI tail) (nI k))
    unfold m_code_250
    rw [if_pos (nI_le (by omega) (by omega)), ci_t (fun i i1 i2 => by omega), m_u2_ok h.1.1 (by omega), Option.bind_some, ckIn_n hx (by omega), nx_eq, nI_clamp (by omega)]
    have f1 : mfr [47, 48] cdA σ (sa σ 39 x (nI (U2 P.1 p))) := mfr.sa (by decide)
    have v1 : (sa σ 39 x (nI (U2 P.1 p))).2 39 x = nI (U2 P.1 p) := sa_eq
    have n1 : mNx cdA x σ (sa σ 39 x (nI (U2 P.1 p))) := mNx.sa
    generalize sa σ 39 x (nI (U2 P.1 p)) = σ1 at *
    have h1 := h.fr f1 (by decide) (by decide)
    rw [nI_2, m_u2_ok h1.1.1 (by omega), Option.bind_some, ckIn_n hx (by omega), nx_eq, ckIn_n hx (by omega), nx_eq, lN_i', ckIn_n hx (by omega), nx_eq, ckIn_n hx (by omega), nx_eq, ckIn_n hx (by omega), nx_eq]
    have e49 : σ1.1 49 = 0 := h1.1.1.1
    have ea : ((sa (sa σ1 40 x (nI (U2 P.1 (p + 2)))) 38 x (nI sz)).1 49 + nI p) + (8 : Int32) = nI (p + 8) := by
      show (σ1.1 49 + nI p) + (8 : Int32) = _
      rw [e49, Int32.zero_add, nI_8]
    rw [ea]
    have eb : (sa (sa (sa σ1 40 x (nI (U2 P.1 (p + 2)))) 38 x (nI sz)) 37 x (nI (p + 8))).1 49 + nI (p + 8 + sz + 2) = nI (p + 8 + sz + 2) := by
      show σ1.1 49 + _ = _
      rw [e49, Int32.zero_add]
    rw [eb]
    have F : mfr [47, 48] cdA σ (sa (sa (sa (sa (sa σ1 40 x (nI (U2 P.1 (p + 2)))) 38 x (nI sz)) 37 x (nI (p + 8))) 41 x (nI (p + 8 + sz + 2))) 42 x (nI rows)) := f1.tr ((mfr.sa (by decide)).tr ((mfr.sa (by decide)).tr ((mfr.sa (by decide)).tr ((mfr.sa (by decide)).tr (mfr.sa (by decide))))))
    have NX : mNx cdA x σ (sa (sa (sa (sa (sa σ1 40 x (nI (U2 P.1 (p + 2)))) 38 x (nI sz)) 37 x (nI (p + 8))) 41 x (nI (p + 8 + sz + 2))) 42 x (nI rows)) := n1.tr (mNx.sa.tr (mNx.sa.tr (mNx.sa.tr (mNx.sa.tr mNx.sa))))
    have V : (fun σ' : SM => σ'.2 37 x = nI (p + 8) ∧ σ'.2 38 x = nI sz ∧ σ'.2 39 x = nI (U2 P.1 p) ∧ σ'.2 40 x = nI (U2 P.1 (p + 2)) ∧ σ'.2 41 x = nI (p + 8 + sz + 2) ∧ σ'.2 42 x = nI rows) (sa (sa (sa (sa (sa σ1 40 x (nI (U2 P.1 (p + 2)))) 38 x (nI sz)) 37 x (nI (p + 8))) 41 x (nI (p + 8 + sz + 2))) 42 x (nI rows)) := by
      refine ⟨?_, ?_, ?_, ?_, ?_, sa_eq⟩
      · rw [sa_nk (by decide), sa_nk (by decide), sa_eq]
      · rw [sa_nk (by decide), sa_nk (by decide), sa_nk (by decide), sa_eq]
      · rw [sa_nk (by decide), sa_nk (by decide), sa_nk (by decide), sa_nk (by decide), sa_nk (by decide), v1]
      · rw [sa_nk (by decide), sa_nk (by decide), sa_nk (by decide), sa_nk (by decide), sa_eq]
      · rw [sa_nk (by decide), sa_eq]
    have V : (fun σ' : SM => σ'.2 37 x = nI (p + 8) ∧ σ'.2 38 x = nI sz ∧ σ'.2 39 x = nI (U2 P.1 p) ∧ σ'.2 40 x = nI (U2 P.1 (p + 2)) ∧ σ'.2 41 x = nI (p + 8 + sz + 2) ∧ σ'.2 42 x = nI rows) _ := V
    generalize sa (sa (sa (sa (sa σ1 40 x (nI (U2 P.1 (p + 2)))) 38 x (nI sz)) 37 x (nI (p + 8))) 41 x (nI (p + 8 + sz + 2))) 42 x (nI rows) = σ2 at *
    rw [m_atn_ok (h.fr F (by decide) (by decide)) g (hK.fr F (by decide) (by decide)) hfu ht hq]
    cases atN P (U2 P.1 tail) (tail + 2) false with
    | error er =>
      refine ⟨mwr σ2 er.1 er.2, F.tr ((mfr.sf (by decide)).tr (mfr.sf (by decide))), Or.inr ⟨?_, (sf_ne (by decide)).trans sf_eq, sf_eq⟩⟩
      show ((some ((-1 : Int32), mwr σ2 er.1 er.2)).bind _) = _
      rw [Option.bind_some, if_neg (show ¬ (0 : Int32) ≤ ((-1 : Int32), mwr σ2 er.1 er.2).1 from (by decide : ¬ (0 : Int32) ≤ -1))]
    | ok a =>
      refine ⟨σ2, ?_, ⟨V, NX⟩, F⟩
      have hq2 := (skA_le _ _ hq).2 ht
      show ((some (nI q, σ2)).bind _) = _
      rw [Option.bind_some, if_pos (show (0 : Int32) ≤ (nI q, σ2).1 from nI_pos' (by omega))]
  | succ d ih =>
    intro k f hk hf
    obtain ⟨f, rfl⟩ : ∃ z9, f = z9 + 1 := ⟨f - 1, by omega⟩
    show mAt _ _ _ _ _ _ (m_code_250 fu (m_code_250L fu f) σ (nI p) (nI x) (lN sz) (nI rows) (nI (p + 8 + sz + 2)) (nI tail) (nI k))
    unfold m_code_250 m_code_347
    have hk8 : p + 8 + sz + 2 + 8 * k + 8 ≤ P.2.1 := by omega
    rw [if_neg (nI_ge (by omega) (by omega)), show (8 : Int32) * nI k = nI (8 * k) from pk_mul 8 _, nI_add, nx_eq]
    generalize hs : p + 8 + sz + 2 + 8 * k = s at *
    have u0 := U2_lt P.1 s
    have u2 := U2_lt P.1 (s + 2)
    have u4 := U2_lt P.1 (s + 4)
    have u6 := U2_lt P.1 (s + 6)
    have tt := tgP_lt P (U2 P.1 (s + 6))
    have bad : ¬ rowP P sz s → mAt [47, 48] cdA pl (ci (∀ i, k ≤ i → i < rows → rowP P sz (p + 8 + sz + 2 + 8 * i)) (atN P (U2 P.1 tail) (tail + 2) false) (.error (43, pl))) (fun _ σ' => (σ'.2 37 x = nI (p + 8) ∧ σ'.2 38 x = nI sz ∧ σ'.2 39 x = nI (U2 P.1 p) ∧ σ'.2 40 x = nI (U2 P.1 (p + 2)) ∧ σ'.2 41 x = nI (p + 8 + sz + 2) ∧ σ'.2 42 x = nI rows) ∧ mNx cdA x σ σ') σ (some ((43 : Int32), σ)) := fun w => by
      rw [ci_f (fun z => w (by have := z k (Nat.le_refl _) (by omega); rw [hs] at this; exact this))]
      exact mAt.er (by omega)
    have good : rowP P sz s → mAt [47, 48] cdA pl (ci (∀ i, k ≤ i → i < rows → rowP P sz (p + 8 + sz + 2 + 8 * i)) (atN P (U2 P.1 tail) (tail + 2) false) (.error (43, pl))) (fun _ σ' => (σ'.2 37 x = nI (p + 8) ∧ σ'.2 38 x = nI sz ∧ σ'.2 39 x = nI (U2 P.1 p) ∧ σ'.2 40 x = nI (U2 P.1 (p + 2)) ∧ σ'.2 41 x = nI (p + 8 + sz + 2) ∧ σ'.2 42 x = nI rows) ∧ mNx cdA x σ σ') σ (m_code_250L fu f σ (nI p) (nI x) (lN sz) (nI rows) (nI (p + 8 + sz + 2)) (nI tail) (nI (k + 1))) := fun w => by
      rw [show (∀ i, k ≤ i → i < rows → rowP P sz (p + 8 + sz + 2 + 8 * i)) = (∀ i, k + 1 ≤ i → i < rows → rowP P sz (p + 8 + sz + 2 + 8 * i)) from propext ⟨fun z i i1 i2 => z i (by omega) i2, fun z i i1 i2 => by
        rcases Nat.lt_or_ge k i with y | y
        · exact z i y i2
        · rw [show i = k by omega, hs]
          exact w⟩]
      exact ih (k + 1) f (by omega) (by omega)
    unfold rowP at bad good
    rw [m_u2_ok h.1.1 (by omega), Option.bind_some, nI_2, m_u2_ok h.1.1 (by omega), Option.bind_some]
    by_cases r1 : U2 P.1 s < U2 P.1 (s + 2)
    case neg =>
      rw [if_pos (nI_le (by omega) (by omega))]
      exact bad (fun z => r1 z.1)
    rw [if_neg (nI_ge r1 (by omega)), Option.bind_some, nI_l (by omega)]
    by_cases r2 : U2 P.1 (s + 2) ≤ sz
    case neg =>
      rw [if_pos ((cmp_gt (by omega) (by omega)).mpr (by omega))]
      exact bad (fun z => r2 z.2.1)
    rw [if_neg (fun z => by have := (cmp_gt (by omega) (by omega)).mp z; omega), nI_4, m_u2_ok h.1.1 (by omega), Option.bind_some, nI_l (by omega)]
    by_cases r3 : U2 P.1 (s + 4) < sz
    case neg =>
      rw [if_pos ((cmp_ge (by omega) (by omega)).mpr (by omega))]
      exact bad (fun z => r3 z.2.2.1)
    rw [if_neg (fun z => by have := (cmp_ge (by omega) (by omega)).mp z; omega), nI_6, m_u2_ok h.1.1 (by omega), Option.bind_some, nx_eq, nI_1]
    by_cases r4 : U2 P.1 (s + 6) = 0
    · rw [if_pos (show nI (U2 P.1 (s + 6)) = 0 by rw [r4]; rfl)]
      exact good ⟨r1, r2, r3, Or.inl r4⟩
    rw [if_neg (nL (k := 0) (by omega) (by omega) r4), Option.bind_some, m_tag_ok h g u6, Option.bind_some]
    by_cases r5 : tgP P (U2 P.1 (s + 6)) = 7
    · rw [if_pos (show nI (tgP P (U2 P.1 (s + 6))) = (7 : Int32) by rw [r5]; rfl)]
      exact good ⟨r1, r2, r3, Or.inr r5⟩
    · rw [if_neg (nL (k := 7) (by omega) (by omega) r5)]
      exact bad (fun z => z.2.2.2.elim r4 r5)
theorem m_cd110 {p e x rows tail sz : Nat} {G : Option (Int32 × SM)} (h : mPo P N S σ) (g : PG P) (he : e ≤ P.2.1) (hG : ∀ f x11 x12 : Nat, x11 ≤ x12 → x12 < 2 ^ 31 → m_code_110 fu (m_code_110L fu f) σ (nI p) (nI e) (nI x) (lN sz) (nI e) (nI rows) (nI (p + 8 + sz + 2)) (nI tail) (nI x11) (nI x12) = G) : ∀ k q i f, k < f → i + k < 70000 → q ≤ e → m_code_110L fu f σ (nI p) (nI e) (nI x) (lN sz) (nI q) (nI rows) (nI (p + 8 + sz + 2)) (nI tail) (nI (i + k)) (nI i) = if eoL P.1 e k q = some e then G else some ((30 : Int32), σ) := by
  have hn := g.1
  intro k
  induction k with
  | zero =>
    intro q i f hf hi hq
    obtain ⟨f, rfl⟩ : ∃ z9, f = z9 + 1 := ⟨f - 1, by omega⟩
    show m_code_110 fu (m_code_110L fu f) σ (nI p) (nI e) (nI x) (lN sz) (nI q) (nI rows) (nI (p + 8 + sz + 2)) (nI tail) (nI (i + 0)) (nI i) = _
    unfold eoL
    by_cases z : q = e
    · rw [if_pos (by rw [z]), z]
      exact hG f (i + 0) i (by omega) (by omega)
    · unfold m_code_110
      rw [if_pos (nI_le (by omega) (by omega)), if_neg (fun w => z ((nI_eq (by omega) (by omega)).mp w)), if_neg (fun w => z (Option.some.inj w))]
  | succ k ih =>
    intro q i f hf hi hq
    obtain ⟨f, rfl⟩ : ∃ z9, f = z9 + 1 := ⟨f - 1, by omega⟩
    have hu := U4_lt P.1 (q + 2)
    show m_code_110 fu (m_code_110L fu f) σ (nI p) (nI e) (nI x) (lN sz) (nI q) (nI rows) (nI (p + 8 + sz + 2)) (nI tail) (nI (i + (k + 1))) (nI i) = _
    unfold m_code_110 eoL
    rw [if_neg (nI_ge (by omega) (by omega)), nI_6]
    by_cases h1 : e < q + 6
    · rw [if_pos (nI_lt h1 (by omega)), if_pos h1, if_neg (fun w => by cases w)]
    rw [if_neg (nI_nlt (by omega) (by omega)), if_neg h1, nI_2, m_u4_ok h.1.1 (by omega), Option.bind_some, Option.bind_some, pk_sub hq, show nI (e - q) - (6 : Int32) = nI (e - q - 6) from pk_sub (b := 6) (by omega), nI_l (by omega)]
    by_cases h2 : e - q - 6 < U4 P.1 (q + 2)
    · rw [if_neg (fun w => by have := (cmp_le (by omega) (by omega)).mp w; omega), if_pos h2, if_neg (fun w => by cases w)]
    rw [if_pos ((cmp_le (by omega) (by omega)).mpr (by omega)), if_neg h2, nx_eq, nx_eq, lN_i', nI_1, nI_add' 6, nI_add, show q + (6 + U4 P.1 (q + 2)) = q + 6 + U4 P.1 (q + 2) by omega]
    have := ih (q + 6 + U4 P.1 (q + 2)) (i + 1) f (by omega) (by omega) (by omega)
    rw [show i + 1 + k = i + (k + 1) by omega] at this
    exact this
theorem m_code_ok {d : List Nat} {fl c x s pl p len : Nat} {x1 : Int32} (h : mPo P N S σ) (g : PG P) (hK : mKn σ) (hfu : 131072 < fu) (hx : x < 8300) (hp : p + len ≤ P.2.1) (h36 : σ.2 36 x = nI s) (hd : mW d (nI s) σ) (hc : placesS d = some c) (h34 : σ.2 34 x = nI fl) :
    mAt [47, 48] cdA pl (codS P (c + if (nI fl &&& (8 : Int32)) = 0 then 1 else 0) pl p len) (fun _ σ' => mCd P.1 x p σ' ∧ mNx cdA x σ σ') σ (m_code fu σ x1 (nI p) (nI (p + len)) (nI x)) := by
  have hn := g.1
  unfold m_code m_code_0 codS
  have u4 := U4_lt P.1 (p + 4)
  rw [pk_sub (by omega), show p + len - p = len by omega]
  by_cases h1 : len < 8
  · rw [if_neg (show ¬ (8 : Int32) ≤ nI len from nI_ge (b := 8) (by omega) (by omega)), if_pos h1]
    exact mAt.er (by omega)
  rw [if_pos (show (8 : Int32) ≤ nI len from nI_le (a := 8) (by omega) (by omega)), if_neg h1, nI_4, m_u4_ok h.1.1 (by omega), Option.bind_some, show nI len - (8 : Int32) = nI (len - 8) from pk_sub (b := 8) (by omega), nI_l (by omega)]
  generalize hsz : U4 P.1 (p + 4) = sz at *
  by_cases h2 : len - 8 < sz
  · rw [if_pos h2, if_neg (show ¬ lg_cmp (lN sz) (lN (len - 8)) ≤ 0 from fun w => by have := (cmp_le (by omega) (by omega)).mp w; omega)]
    exact mAt.er (by omega)
  rw [if_pos ((cmp_le (by omega) (by omega)).mpr (by omega)), if_neg h2, nx_eq, lN_i', nI_8, nI_add, nI_2]
  by_cases h3 : p + len < p + 8 + sz + 2
  · rw [if_neg (nI_ge h3 (by omega)), if_pos h3]
    exact mAt.er (by omega)
  have ur := U2_lt P.1 (p + 8 + sz)
  rw [if_pos (nI_le (by omega) (by omega)), if_neg h3, m_u2_ok h.1.1 (by omega), Option.bind_some, nx_eq, nx_eq, show (8 : Int32) * nI (U2 P.1 (p + 8 + sz)) = nI (8 * U2 P.1 (p + 8 + sz)) from pk_mul 8 _, nI_add, nI_2]
  generalize hrows : U2 P.1 (p + 8 + sz) = rows at *
  unfold eoaS
  have ht := U2_lt P.1 (p + 8 + sz + 2 + 8 * rows)
  by_cases h4 : p + len < p + 8 + sz + 2 + 8 * rows + 2
  · rw [if_neg (nI_ge h4 (by omega)), if_pos h4]
    by_cases h5 : p + len < p + 8 + sz + 2 + 8 * rows
    · rw [if_pos h5]
      exact mAt.er (by omega)
    · rw [if_neg h5, if_neg (fun w => by cases w)]
      exact mAt.er (by omega)
  rw [if_pos (nI_le (by omega) (by omega)), if_neg (by omega), if_neg h4, m_u2_ok h.1.1 (by omega), Option.bind_some, nx_eq]
  generalize htl : p + 8 + sz + 2 + 8 * rows = tail at *
  have key := m_cd110 (fu := fu) (x := x) (p := p) (rows := rows) (tail := tail) (sz := sz) (G := if (lg_cmp (lN sz) (0 : Int64)) = 0 then some ((41 : Int32), σ) else if (lg_cmp (lN sz) (65535 : Int64)) ≤ 0 then ckIn (nI x) 8300 ((m_places0 fu σ (σ.2 36 (nI x).toNatClampNeg)).bind fun r6 => ckIn (nI x) 8300 (if ((σ.2 34 (nI x).toNatClampNeg) &&& (8 : Int32)) = 0 then m_code_229 fu σ (nI p) (nI x) (lN sz) (nI rows) (nI (p + 8 + sz + 2)) (nI tail) (1 : Int32) r6 else m_code_229 fu σ (nI p) (nI x) (lN sz) (nI rows) (nI (p + 8 + sz + 2)) (nI tail) (0 : Int32) r6)) else some ((41 : Int32), σ)) (e := p + len) h g hp (fun f x11 x12 w1 w2 => by
    unfold m_code_110
    rw [if_pos (nI_le w1 w2), if_pos rfl]) (U2 P.1 tail) (tail + 2) 0 fu (by omega) (by omega) (by omega)
  rw [Nat.zero_add] at key
  rw [show m_code_110L fu fu σ (nI p) (nI (p + len)) (nI x) (lN sz) (nI (tail + 2)) (nI rows) (nI (p + 8 + sz + 2)) (nI tail) (nI (U2 P.1 tail)) (0 : Int32) = _ from key]
  clear key
  by_cases h5 : eoL P.1 (p + len) (U2 P.1 tail) (tail + 2) = some (p + len)
  case neg =>
    rw [if_neg h5, if_neg h5]
    exact mAt.er (by omega)
  have hsk := eoL_skA hp _ _ h5
  rw [if_pos h5, if_pos h5, show (0 : Int64) = lN 0 from rfl, show (65535 : Int64) = lN 65535 from rfl]
  by_cases h6 : sz = 0
  · rw [if_pos ((cmp_eq (by omega) (by omega)).mpr h6), if_pos (Or.inl h6)]
    exact mAt.er (by omega)
  rw [if_neg (fun w => h6 ((cmp_eq (by omega) (by omega)).mp w))]
  have h7 : ¬ 65535 < sz := by omega
  have uc : c ≤ 65536 := by
    have := placesS_le hc
    omega
  rw [if_pos ((cmp_le (by omega) (by omega)).mpr (by omega)), if_neg (by omega), ckIn_n hx (by omega), nI_clamp (by omega), h36, m_places0_ok hd (by omega) hc, Option.bind_some, ckIn_n hx (by omega), h34]
  have u2 := U2_lt P.1 (p + 2)
  have fin : ∀ b : Nat, b ≤ 1 → mAt [47, 48] cdA pl (if U2 P.1 (p + 2) < c + b then .error (42, pl) else ci (∀ k, 0 ≤ k → k < rows → rowP P sz (p + 8 + sz + 2 + 8 * k)) (atN P (U2 P.1 tail) (tail + 2) false) (.error (43, pl))) (fun _ σ' => mCd P.1 x p σ' ∧ mNx cdA x σ σ') σ (m_code_229 fu σ (nI p) (nI x) (lN sz) (nI rows) (nI (p + 8 + sz + 2)) (nI tail) (nI b) (nI c)) := fun b hb => by
    unfold m_code_229
    rw [nI_add, nx_eq, nI_2, m_u2_ok h.1.1 (by omega), Option.bind_some]
    by_cases h8 : U2 P.1 (p + 2) < c + b
    · rw [if_neg (nI_ge h8 (by omega)), if_pos h8]
      exact mAt.er (by omega)
    rw [if_pos (nI_le (by omega) (by omega)), if_neg h8]
    refine (m_cd250 (pl := pl) h g hK hfu hx (by omega) (by omega) htl (by omega) hsk rows 0 fu (by omega) (by omega)).mo (fun _ z => z) (fun _ z => z) (fun a σ' _ w _ => ?_)
    refine ⟨?_, w.2⟩
    unfold mCd
    rw [hsz, hrows]
    exact ⟨by omega, w.1⟩
  by_cases h9 : (nI fl &&& (8 : Int32)) = 0
  · rw [if_pos h9, if_pos h9]
    exact fin 1 (by omega)
  · rw [if_neg h9, if_neg h9]
    exact fin 0 (by omega)
end MAt3
