/-! BootstrapMethods, Record: the twin -/
section MAt2
set_option maxRecDepth 100000
variable {P : PD} {N fu : Nat} {S : Nat → List Nat} {σ : SM}
/-- an attribute: 0, or the rule, or -1 if that is told -/
def mAt {α : Type} (L A : List Nat) (pl : Nat) (E : FE α) (Q : α → SM → Prop) (σ : SM) (o : Option (Int32 × SM)) : Prop := match E with
  | .error e => ∃ σ', mfr L A σ σ' ∧ ((o = some (nI e.1, σ') ∧ e.2 = pl ∧ 0 < e.1 ∧ e.1 < 100) ∨ (o = some (-1, σ') ∧ σ'.1 47 = nI e.1 ∧ σ'.1 48 = nI e.2))
  | .ok a => ∃ σ', o = some (0, σ') ∧ Q a σ' ∧ mfr L A σ σ'
theorem mAt.er {α : Type} {L A : List Nat} {pl r : Nat} {Q : α → SM → Prop} (h : 0 < r ∧ r < 100) : mAt L A pl (.error (r, pl) : FE α) Q σ (some (no_index (OfNat.ofNat r), σ)) := ⟨σ, mfr.rf, Or.inl ⟨rfl, rfl, h⟩⟩
theorem mAt.fr {α : Type} {L A : List Nat} {pl : Nat} {E : FE α} {Q : α → SM → Prop} {σ1 : SM} {o : Option (Int32 × SM)} (h : mfr L A σ σ1) (k : mAt L A pl E Q σ1 o) : mAt L A pl E Q σ o := by
  cases E with
  | error e =>
    obtain ⟨s, k1, k2⟩ := k
    exact ⟨s, h.tr k1, k2⟩
  | ok a =>
    obtain ⟨s, k1, k2, k3⟩ := k
    exact ⟨s, k1, k2, h.tr k3⟩
theorem mAt.mo {α : Type} {L A L' A' : List Nat} {pl : Nat} {E : FE α} {Q Q' : α → SM → Prop} {o : Option (Int32 × SM)} (k : mAt L A pl E Q σ o) (h1 : ∀ k, k ∈ L → k ∈ L') (h2 : ∀ k, k ∈ A → k ∈ A') (hq : ∀ a σ', E = .ok a → Q a σ' → mfr L A σ σ' → Q' a σ') : mAt L' A' pl E Q' σ o := by
  cases E with
  | error e =>
    obtain ⟨s, k1, k2⟩ := k
    exact ⟨s, k1.mo h1 h2, k2⟩
  | ok a =>
    obtain ⟨s, k1, k2, k3⟩ := k
    exact ⟨s, k1, hq a s rfl k2 k3, k3.mo h1 h2⟩
/-- what follows an attribute that is right -/
theorem mAt.map {α β : Type} {L A : List Nat} {pl : Nat} {E : FE α} {f : α → β} {Q : α → SM → Prop} {Q' : β → SM → Prop} {o : Option (Int32 × SM)} (k : mAt L A pl E Q σ o) (hq : ∀ a σ', E = .ok a → Q a σ' → mfr L A σ σ' → Q' (f a) σ') : mAt L A pl (eb E fun a => .ok (f a)) Q' σ o := by
  cases E with
  | error e => exact k
  | ok a =>
    obtain ⟨s, k1, k2, k3⟩ := k
    exact ⟨s, k1, hq a s rfl k2 k3, k3⟩
theorem mAt.self {α : Type} {L A : List Nat} {pl : Nat} {E : FE α} {Q : α → SM → Prop} {o : Option (Int32 × SM)} (k : mAt L A pl E Q σ o) : mAt L A pl E Q σ (o.bind fun r => some (r.1, r.2)) := by
  cases o with
  | none => exact k
  | some r => exact k
/-- BootstrapMethods, the first time over -/
theorem m_b24 {p e many : Nat} (h : mPo P N S σ) (g : PG P) (he : e ≤ P.2.1) (hm : many < 65536) : ∀ d q i f, i + d = many → d < f → q ≤ e → m_bootstraps_24L fu f σ (nI p) (nI e) (nI many) (nI q) (nI i) = if bsL P.1 e d q = some e then m_bootstraps_100L fu fu σ (nI p) (nI many) (nI (p + 2)) (0 : Int32) else some ((30 : Int32), σ) := by
  have hn := g.1
  intro d
  induction d with
  | zero =>
    intro q i f hi hf hq
    obtain ⟨f, rfl⟩ : ∃ z9, f = z9 + 1 := ⟨f - 1, by omega⟩
    show m_bootstraps_24 fu (m_bootstraps_24L fu f) σ (nI p) (nI e) (nI many) (nI q) (nI i) = _
    unfold m_bootstraps_24 bsL
    rw [if_pos (nI_le (by omega) (by omega)), nx_eq, nI_2]
    by_cases z : q = e
    · rw [if_pos (by rw [z]), if_pos (by rw [z])]
    · rw [if_neg (fun w => z ((nI_eq (by omega) (by omega)).mp w)), if_neg (fun w => z (Option.some.inj w))]
  | succ d ih =>
    intro q i f hi hf hq
    obtain ⟨f, rfl⟩ : ∃ z9, f = z9 + 1 := ⟨f - 1, by omega⟩
    have hu := U2_lt P.1 (q + 2)
    show m_bootstraps_24 fu (m_bootstraps_24L fu f) σ (nI p) (nI e) (nI many) (nI q) (nI i) = _
    unfold m_bootstraps_24 bsL
    rw [if_neg (nI_ge (by omega) (by omega)), nI_4]
    by_cases h1 : e < q + 4
    · rw [if_pos (nI_lt h1 (by omega)), if_pos (Or.inl h1), if_neg (fun w => by cases w)]
    rw [if_neg (nI_nlt (by omega) (by omega)), nI_2, m_u2_ok h.1.1 (by omega), Option.bind_some, Option.bind_some, show (2 : Int32) * nI (U2 P.1 (q + 2)) = nI (2 * U2 P.1 (q + 2)) from pk_mul 2 _, nI_add]
    by_cases h2 : e < q + 4 + 2 * U2 P.1 (q + 2)
    · rw [if_neg (nI_ge h2 (by omega)), if_pos (Or.inr h2), if_neg (fun w => by cases w)]
    rw [if_pos (nI_le (by omega) (by omega)), if_neg (show ¬ (e < q + 4 ∨ e < q + 4 + 2 * U2 P.1 (q + 2)) by omega), nx_eq, nx_eq, nI_1, nI_add' 4, nI_add, show q + (4 + 2 * U2 P.1 (q + 2)) = q + 4 + 2 * U2 P.1 (q + 2) by omega]
    exact ih _ (i + 1) f (by omega) (by omega) (by omega)
/-- what a bootstrap method may take -/
theorem m_b127 {k100 : SM → Int32 → Int32 → Int32 → Int32 → Option (Int32 × SM)} {x1 x3 x5 : Int32} {q args : Nat} (h : mPo P N S σ) (g : PG P) (ha : U2 P.1 (q + 2) = args) (hq : q + 4 + 2 * args ≤ P.2.1) : ∀ d j f, j + d = args → d < f → m_bootstraps_127L fu k100 f σ x1 x3 (nI q) x5 (nI j) = ci (∀ i, j + 1 ≤ i → i < args + 1 → ldP P (U2 P.1 (q + 2 + 2 * i))) (k100 σ x1 x3 (nI (q + 4 + 2 * args)) (x5 + 1)) (some ((38 : Int32), σ)) := by
  have hn := g.1
  intro d
  induction d with
  | zero =>
    intro j f hj hf
    obtain ⟨f, rfl⟩ : ∃ z9, f = z9 + 1 := ⟨f - 1, by omega⟩
    show m_bootstraps_127 fu k100 (m_bootstraps_127L fu k100 f) σ x1 x3 (nI q) x5 (nI j) = _
    unfold m_bootstraps_127
    rw [nI_2, m_u2_ok h.1.1 (by omega), Option.bind_some, ha, if_pos (nI_le (by omega) (by omega)), Option.bind_some, nx_eq, nx_eq, show (2 : Int32) * nI args = nI (2 * args) from pk_mul 2 _, nI_add' 4, nI_add, show q + (4 + 2 * args) = q + 4 + 2 * args by omega, ci_t (fun i i1 i2 => by omega)]
  | succ d ih =>
    intro j f hj hf
    obtain ⟨f, rfl⟩ : ∃ z9, f = z9 + 1 := ⟨f - 1, by omega⟩
    have hu := U2_lt P.1 (q + 4 + 2 * j)
    have ht := tgP_lt P (U2 P.1 (q + 4 + 2 * j))
    show m_bootstraps_127 fu k100 (m_bootstraps_127L fu k100 f) σ x1 x3 (nI q) x5 (nI j) = _
    unfold m_bootstraps_127 m_bootstraps_172 m_bootstraps_189
    rw [nI_2, m_u2_ok h.1.1 (by omega), Option.bind_some, ha, if_neg (nI_ge (by omega) (by omega)), nI_4, show (2 : Int32) * nI j = nI (2 * j) from pk_mul 2 _, nI_add, m_u2_ok h.1.1 (by omega), Option.bind_some, m_tag_ok h g hu, Option.bind_some, nx_eq, nI_1, ih (j + 1) f (by omega) (by omega)]
    have e : ldP P (U2 P.1 (q + 4 + 2 * j)) → ci (∀ i, j + 1 + 1 ≤ i → i < args + 1 → ldP P (U2 P.1 (q + 2 + 2 * i))) (k100 σ x1 x3 (nI (q + 4 + 2 * args)) (x5 + 1)) (some ((38 : Int32), σ)) = ci (∀ i, j + 1 ≤ i → i < args + 1 → ldP P (U2 P.1 (q + 2 + 2 * i))) (k100 σ x1 x3 (nI (q + 4 + 2 * args)) (x5 + 1)) (some ((38 : Int32), σ)) := fun w => by
      rw [show (∀ i, j + 1 ≤ i → i < args + 1 → ldP P (U2 P.1 (q + 2 + 2 * i))) = (∀ i, j + 1 + 1 ≤ i → i < args + 1 → ldP P (U2 P.1 (q + 2 + 2 * i))) from propext ⟨fun z i i1 i2 => z i (by omega) i2, fun z i i1 i2 => by
        rcases Nat.lt_or_ge (j + 1) i with y | y
        · exact z i y i2
        · rw [show i = j + 1 by omega, show q + 2 + 2 * (j + 1) = q + 4 + 2 * j by omega]
          exact w⟩]
    have no : ¬ ldP P (U2 P.1 (q + 4 + 2 * j)) → some ((38 : Int32), σ) = ci (∀ i, j + 1 ≤ i → i < args + 1 → ldP P (U2 P.1 (q + 2 + 2 * i))) (k100 σ x1 x3 (nI (q + 4 + 2 * args)) (x5 + 1)) (some ((38 : Int32), σ)) := fun w => by
      rw [ci_f (fun z => w (by have := z (j + 1) (by omega) (by omega); rw [show q + 2 + 2 * (j + 1) = q + 4 + 2 * j by omega] at this; exact this))]
    unfold ldP at e no
    generalize tgP P (U2 P.1 (q + 4 + 2 * j)) = t at *
    by_cases h1 : t < 3
    · rw [if_pos (show nI t < (3 : Int32) from nI_lt (b := 3) (by omega) (by omega)), if_pos (show nI t < (15 : Int32) from nI_lt (b := 15) (by omega) (by omega))]
      exact no (by omega)
    rw [if_neg (show ¬ nI t < (3 : Int32) from nI_nlt (b := 3) (by omega) (by omega))]
    by_cases h2 : t ≤ 8
    · rw [if_pos (show nI t ≤ (8 : Int32) from nI_le (b := 8) (by omega) (by omega))]
      exact e (by omega)
    rw [if_neg (show ¬ nI t ≤ (8 : Int32) from nI_ge (a := 8) (by omega) (by omega))]
    by_cases h3 : t < 15
    · rw [if_pos (show nI t < (15 : Int32) from nI_lt (b := 15) (by omega) (by omega))]
      exact no (by omega)
    rw [if_neg (show ¬ nI t < (15 : Int32) from nI_nlt (b := 15) (by omega) (by omega))]
    by_cases h4 : t ≤ 17
    · rw [if_pos (show nI t ≤ (17 : Int32) from nI_le (b := 17) (by omega) (by omega))]
      exact e (by omega)
    · rw [if_neg (show ¬ nI t ≤ (17 : Int32) from nI_ge (a := 17) (by omega) (by omega))]
      exact no (by omega)
theorem m_b100 {p e many : Nat} (h : mPo P N S σ) (g : PG P) (hfu : 65536 < fu) (he : e ≤ P.2.1) (hm : many < 65536) : ∀ d q i f, i + d = many → d < f → q ≤ e → bsL P.1 e d q = some e → m_bootstraps_100L fu f σ (nI p) (nI many) (nI q) (nI i) = ci (bsT P d q) (some ((0 : Int32), sf (sf σ 70 (nI p)) 71 (nI many))) (some ((38 : Int32), σ)) := by
  have hn := g.1
  intro d
  induction d with
  | zero =>
    intro q i f hi hf hq hb
    obtain ⟨f, rfl⟩ : ∃ z9, f = z9 + 1 := ⟨f - 1, by omega⟩
    show m_bootstraps_100 fu (m_bootstraps_100L fu f) σ (nI p) (nI many) (nI q) (nI i) = _
    unfold m_bootstraps_100
    rw [if_pos (nI_le (by omega) (by omega)), nx_eq, nx_eq, ci_t (show bsT P 0 q from trivial)]
  | succ d ih =>
    intro q i f hi hf hq hb
    obtain ⟨f, rfl⟩ : ∃ z9, f = z9 + 1 := ⟨f - 1, by omega⟩
    obtain ⟨hb1, hb2⟩ := bsL_su hb
    have hu := U2_lt P.1 q
    have hu2 := U2_lt P.1 (q + 2)
    show m_bootstraps_100 fu (m_bootstraps_100L fu f) σ (nI p) (nI many) (nI q) (nI i) = _
    have hT0 : bsT P (d + 1) q = (tgP P (U2 P.1 q) = 15 ∧ (∀ j, 1 ≤ j → j < U2 P.1 (q + 2) + 1 → ldP P (U2 P.1 (q + 2 + 2 * j))) ∧ bsT P d (q + 4 + 2 * U2 P.1 (q + 2))) := rfl
    unfold m_bootstraps_100
    rw [if_neg (nI_ge (by omega) (by omega)), m_u2_ok h.1.1 (by omega), Option.bind_some, m_tag_ok h g hu, Option.bind_some, hT0]
    have := tgP_lt P (U2 P.1 q)
    by_cases h1 : tgP P (U2 P.1 q) = 15
    case neg => rw [if_neg (nL (k := 15) (by omega) (by omega) h1), ci_f (fun w => h1 w.1)]
    rw [if_pos (show nI (tgP P (U2 P.1 q)) = (15 : Int32) by rw [h1]; rfl), show m_bootstraps_127L fu (m_bootstraps_100L fu f) fu σ (nI p) (nI many) (nI q) (nI i) (0 : Int32) = _ from m_b127 h g rfl (by omega) (U2 P.1 (q + 2)) 0 fu (by omega) (by omega), nI_1, ih _ (i + 1) f (by omega) (by omega) (by omega) hb2]
    by_cases h2 : ∀ j, 0 + 1 ≤ j → j < U2 P.1 (q + 2) + 1 → ldP P (U2 P.1 (q + 2 + 2 * j))
    case neg => rw [ci_f h2, ci_f (fun w => h2 w.2.1)]
    rw [ci_t h2]
    by_cases h3 : bsT P d (q + 4 + 2 * U2 P.1 (q + 2))
    · rw [ci_t h3, ci_t ⟨h1, h2, h3⟩]
    · rw [ci_f h3, ci_f (fun w => h3 w.2.2)]
theorem m_bootstraps_ok {pl p len : Nat} (h : mPo P N S σ) (g : PG P) (hfu : 65536 < fu) (hp : p + len ≤ P.2.1) : mAt [47, 48, 70, 71] [] pl (booS P pl p len) (fun _ σ' => σ' = sf (sf σ 70 (nI p)) 71 (nI (U2 P.1 p))) σ (m_bootstraps fu σ (nI p) (nI (p + len))) := by
  have hn := g.1
  have hu := U2_lt P.1 p
  unfold m_bootstraps m_bootstraps_0 booS
  rw [pk_sub (by omega), show p + len - p = len by omega]
  by_cases h1 : len < 2
  · rw [if_neg (show ¬ (2 : Int32) ≤ nI len from nI_ge (b := 2) (by omega) (by omega)), if_pos h1]
    exact mAt.er (by omega)
  rw [if_pos (show (2 : Int32) ≤ nI len from nI_le (a := 2) (by omega) (by omega)), if_neg h1, m_u2_ok h.1.1 (by omega), Option.bind_some, nx_eq, nI_2, show m_bootstraps_24L fu fu σ (nI p) (nI (p + len)) (nI (U2 P.1 p)) (nI (p + 2)) (0 : Int32) = _ from m_b24 h g hp hu (U2 P.1 p) (p + 2) 0 fu (by omega) (by omega) (by omega)]
  by_cases h2 : bsL P.1 (p + len) (U2 P.1 p) (p + 2) = some (p + len)
  case neg =>
    rw [if_neg h2, if_neg h2]
    exact mAt.er (by omega)
  rw [if_pos h2, if_pos h2, show m_bootstraps_100L fu fu σ (nI p) (nI (U2 P.1 p)) (nI (p + 2)) (0 : Int32) = _ from m_b100 h g hfu hp hu (U2 P.1 p) (p + 2) 0 fu (by omega) (by omega) (by omega) h2]
  by_cases h3 : bsT P (U2 P.1 p) (p + 2)
  · rw [ci_t h3, ci_t h3]
    exact ⟨_, rfl, rfl, (mfr.sf (by decide)).tr (mfr.sf (by decide))⟩
  · rw [ci_f h3, ci_f h3]
    exact mAt.er (by omega)
/-- Record, the first time over -/
theorem m_c58 {k24 : SM → Int32 → Int32 → Int32 → Int32 → Int32 → Option (Int32 × SM)} {x1 x3 x5 : Int32} {e : Nat} (h : mPo P N S σ) (g : PG P) (he : e ≤ P.2.1) : ∀ k q i f, k < f → i + k < 70000 → q ≤ e → m_components_58L fu k24 f σ x1 (nI e) x3 (nI q) x5 (nI (i + k)) (nI i) = match eoL P.1 e k q with
    | none => some ((30 : Int32), σ)
    | some q' => k24 σ x1 (nI e) x3 (nI q') (x5 + 1) := by
  have hn := g.1
  intro k
  induction k with
  | zero =>
    intro q i f hf hi hq
    obtain ⟨f, rfl⟩ : ∃ z9, f = z9 + 1 := ⟨f - 1, by omega⟩
    show m_components_58 fu k24 (m_components_58L fu k24 f) σ x1 (nI e) x3 (nI q) x5 (nI (i + 0)) (nI i) = _
    unfold m_components_58 eoL
    rw [if_pos (nI_le (by omega) (by omega)), nx_eq]
  | succ k ih =>
    intro q i f hf hi hq
    obtain ⟨f, rfl⟩ : ∃ z9, f = z9 + 1 := ⟨f - 1, by omega⟩
    have hu := U4_lt P.1 (q + 2)
    show m_components_58 fu k24 (m_components_58L fu k24 f) σ x1 (nI e) x3 (nI q) x5 (nI (i + (k + 1))) (nI i) = _
    unfold m_components_58 eoL
    rw [if_neg (nI_ge (by omega) (by omega)), nI_6]
    by_cases h1 : e < q + 6
    · rw [if_pos (nI_lt h1 (by omega)), if_pos h1]
    rw [if_neg (nI_nlt (by omega) (by omega)), if_neg h1, nI_2, m_u4_ok h.1.1 (by omega), Option.bind_some, Option.bind_some, pk_sub hq, show nI (e - q) - (6 : Int32) = nI (e - q - 6) from pk_sub (b := 6) (by omega), nI_l (by omega)]
    by_cases h2 : e - q - 6 < U4 P.1 (q + 2)
    · rw [if_neg (fun w => by have := (cmp_le (by omega) (by omega)).mp w; omega), if_pos h2]
    rw [if_pos ((cmp_le (by omega) (by omega)).mpr (by omega)), if_neg h2, nx_eq, nx_eq, lN_i', nI_1, nI_add' 6, nI_add]
    have := ih (q + (6 + U4 P.1 (q + 2))) (i + 1) f (by omega) (by omega) (by omega)
    rw [show i + 1 + k = i + (k + 1) by omega] at this
    rw [this, show q + (6 + U4 P.1 (q + 2)) = q + 6 + U4 P.1 (q + 2) by omega]
theorem m_c24 {p e many : Nat} (h : mPo P N S σ) (g : PG P) (hfu : 131072 < fu) (he : e ≤ P.2.1) (hm : many < 65536) : ∀ d q i f, i + d = many → d < f → q ≤ e → m_components_24L fu f σ (nI p) (nI e) (nI many) (nI q) (nI i) = if rcL P.1 e d q = some e then m_components_143L fu fu σ (nI many) (nI (p + 2)) (0 : Int32) else some ((30 : Int32), σ) := by
  have hn := g.1
  intro d
  induction d with
  | zero =>
    intro q i f hi hf hq
    obtain ⟨f, rfl⟩ : ∃ z9, f = z9 + 1 := ⟨f - 1, by omega⟩
    show m_components_24 fu (m_components_24L fu f) σ (nI p) (nI e) (nI many) (nI q) (nI i) = _
    unfold m_components_24 rcL
    rw [if_pos (nI_le (by omega) (by omega)), nx_eq, nI_2]
    by_cases z : q = e
    · rw [if_pos (by rw [z]), if_pos (by rw [z])]
    · rw [if_neg (fun w => z ((nI_eq (by omega) (by omega)).mp w)), if_neg (fun w => z (Option.some.inj w))]
  | succ d ih =>
    intro q i f hi hf hq
    obtain ⟨f, rfl⟩ : ∃ z9, f = z9 + 1 := ⟨f - 1, by omega⟩
    have hu := U2_lt P.1 (q + 4)
    show m_components_24 fu (m_components_24L fu f) σ (nI p) (nI e) (nI many) (nI q) (nI i) = _
    unfold m_components_24 rcL
    rw [if_neg (nI_ge (by omega) (by omega)), nI_6]
    by_cases h1 : e < q + 6
    · rw [if_neg (nI_ge h1 (by omega)), if_pos h1, if_neg (fun w => by cases w)]
    rw [if_pos (nI_le (by omega) (by omega)), if_neg h1, nI_4, m_u2_ok h.1.1 (by omega), Option.bind_some, nx_eq]
    have e58 := m_c58 (fu := fu) (k24 := m_components_24L fu f) (x1 := nI p) (x3 := nI many) (x5 := nI i) h g he (U2 P.1 (q + 4)) (q + 6) 0 fu (by omega) (by omega) (by omega)
    rw [Nat.zero_add] at e58
    rw [show m_components_58L fu (m_components_24L fu f) fu σ (nI p) (nI e) (nI many) (nI (q + 6)) (nI i) (nI (U2 P.1 (q + 4))) (0 : Int32) = _ from e58]
    cases h2 : eoL P.1 e (U2 P.1 (q + 4)) (q + 6) with
    | none =>
      show some ((30 : Int32), σ) = if (none : Option Nat) = some e then _ else _
      rw [if_neg (fun w => by cases w)]
    | some q' =>
      show m_components_24L fu f σ (nI p) (nI e) (nI many) (nI q') (nI i + 1) = _
      rw [nI_1]
      exact ih q' (i + 1) f (by omega) (by omega) ((eoL_le _ _ h2).2 (by omega))
/-- Record, the second time over -/
def mE2 {α : Type} (σ : SM) (E : FE α) (k : α → Option (Int32 × SM)) : Option (Int32 × SM) := match E with
  | .ok a => k a
  | .error e => some (-1, mwr σ e.1 e.2)
theorem m_wrN (r p : Nat) : m_wrong σ (no_index (OfNat.ofNat r)) (nI p) = some (0, mwr σ r p) := rfl
theorem m_c235 {k143 : SM → Int32 → Int32 → Int32 → Option (Int32 × SM)} {x3 x5 : Int32} {e : Nat} (h : mPo P N S σ) (g : PG P) (he : e ≤ P.2.1) : ∀ k q i f r, k < f → i + k < 70000 → eoL P.1 e k q = some r → q ≤ e → m_components_235L fu k143 f σ x3 (nI q) x5 (nI (i + k)) (nI i) = mE2 σ (rcA P k q) fun q' => k143 σ x3 (nI q') (x5 + 1) := by
  have hn := g.1
  intro k
  induction k with
  | zero =>
    intro q i f r hf hi hr hq
    obtain ⟨f, rfl⟩ : ∃ z9, f = z9 + 1 := ⟨f - 1, by omega⟩
    show m_components_235 fu k143 (m_components_235L fu k143 f) σ x3 (nI q) x5 (nI (i + 0)) (nI i) = _
    unfold m_components_235 rcA
    rw [if_pos (nI_le (by omega) (by omega)), nx_eq]
    rfl
  | succ k ih =>
    intro q i f r hf hi hr hq
    obtain ⟨f, rfl⟩ : ∃ z9, f = z9 + 1 := ⟨f - 1, by omega⟩
    obtain ⟨h1, h2⟩ := eoL_su hr
    have hu := U2_lt P.1 q
    have := tgP_lt P (U2 P.1 q)
    show m_components_235 fu k143 (m_components_235L fu k143 f) σ x3 (nI q) x5 (nI (i + (k + 1))) (nI i) = _
    unfold m_components_235 rcA
    rw [if_neg (nI_ge (by omega) (by omega)), m_u2_ok h.1.1 (by omega), Option.bind_some, m_tag_ok h g hu, Option.bind_some]
    by_cases ht : tgP P (U2 P.1 q) = 1
    case neg =>
      rw [if_neg (nL (k := 1) (by omega) (by omega) ht), if_neg ht, m_wrN 28, Option.bind_some]
      rfl
    rw [if_pos (show nI (tgP P (U2 P.1 q)) = (1 : Int32) by rw [ht]; rfl), if_pos ht, nI_2, m_u4_ok h.1.1 (by omega), Option.bind_some, nx_eq, nx_eq, lN_i', nI_1, nI_add' 6, nI_add, show q + (6 + U4 P.1 (q + 2)) = q + 6 + U4 P.1 (q + 2) by omega]
    have := ih (q + 6 + U4 P.1 (q + 2)) (i + 1) f r (by omega) (by omega) h2 (by omega)
    rw [show i + 1 + k = i + (k + 1) by omega] at this
    exact this
theorem m_c143 {pl e many : Nat} (h : mPo P N S σ) (g : PG P) (hfu : 131072 < fu) (he : e ≤ P.2.1) (hm : many < 65536) : ∀ k q i f, k < f → i + k = many → rcL P.1 e k q = some e → q ≤ e → mAt [47, 48, 72] [] pl (rcT P pl k q) (fun _ σ' => σ' = sf σ 72 (nI many)) σ (m_components_143L fu f σ (nI many) (nI q) (nI i)) := by
  have hn := g.1
  intro k
  induction k with
  | zero =>
    intro q i f hf hi hr hq
    obtain ⟨f, rfl⟩ : ∃ z9, f = z9 + 1 := ⟨f - 1, by omega⟩
    show mAt _ _ _ _ _ _ (m_components_143 fu (m_components_143L fu f) σ (nI many) (nI q) (nI i))
    unfold m_components_143 rcT
    rw [if_pos (nI_le (by omega) (by omega)), nx_eq]
    exact ⟨_, rfl, rfl, mfr.sf (by decide)⟩
  | succ k ih =>
    intro q i f hf hi hr hq
    obtain ⟨f, rfl⟩ : ∃ z9, f = z9 + 1 := ⟨f - 1, by omega⟩
    obtain ⟨h1, q', h2, h3⟩ := rcL_su hr
    have hq' := (eoL_le _ _ h2).2 h1
    have hu := U2_lt P.1 q
    have hu2 := U2_lt P.1 (q + 2)
    have hu4 := U2_lt P.1 (q + 4)
    have t1 := tgP_lt P (U2 P.1 q)
    have t2 := tgP_lt P (U2 P.1 (q + 2))
    show mAt _ _ _ _ _ _ (m_components_143 fu (m_components_143L fu f) σ (nI many) (nI q) (nI i))
    unfold m_components_143 rcT
    rw [if_neg (nI_ge (by omega) (by omega)), m_u2_ok h.1.1 (by omega), Option.bind_some, m_tag_ok h g hu, Option.bind_some]
    by_cases ht : tgP P (U2 P.1 q) = 1
    case neg =>
      rw [if_neg (nL (k := 1) (by omega) (by omega) ht), ci_f (fun w => ht w.1)]
      exact mAt.er (by omega)
    obtain ⟨s, s1, s2, s3, s4⟩ := m_sym h g ht
    rw [if_pos (show nI (tgP P (U2 P.1 q)) = (1 : Int32) by rw [ht]; rfl), Option.bind_some, s1, Option.bind_some, m_unqualified_ok s4 (by omega), Option.bind_some, show ((1 : Int32) = 0) = False from propext ⟨fun z => absurd z i10, fun z => z.elim⟩]
    by_cases q1 : PlainS (txP P (U2 P.1 q)) 0 (txP P (U2 P.1 q)).length False
    case neg =>
      rw [ib_f q1, ci_f (fun w => q1 w.2.1)]
      exact mAt.er (by omega)
    rw [ib_t q1, nI_2, m_u2_ok h.1.1 (by omega), Option.bind_some, m_tag_ok h g hu2, Option.bind_some]
    by_cases hd2 : tgP P (U2 P.1 (q + 2)) = 1
    case neg =>
      rw [if_neg (nL (k := 1) (by omega) (by omega) hd2), ci_f (fun w => hd2 w.2.2.1)]
      exact mAt.er (by omega)
    obtain ⟨s', u1, u2, u3, u4⟩ := m_sym h g hd2
    rw [if_pos (show nI (tgP P (U2 P.1 (q + 2))) = (1 : Int32) by rw [hd2]; rfl), Option.bind_some, u1, Option.bind_some, m_isField_ok u4 (by omega), Option.bind_some]
    by_cases q2 : FieldS (txP P (U2 P.1 (q + 2)))
    case neg =>
      rw [ib_f q2, ci_f (fun w => q2 w.2.2.2)]
      exact mAt.er (by omega)
    rw [ib_t q2, ci_t ⟨ht, q1, hd2, q2⟩, nI_4, m_u2_ok h.1.1 (by omega), Option.bind_some, nx_eq, nI_6]
    have e235 := m_c235 (fu := fu) (k143 := m_components_143L fu f) (x3 := nI many) (x5 := nI i) h g he (U2 P.1 (q + 4)) (q + 6) 0 fu q' (by omega) (by omega) h2 h1
    rw [Nat.zero_add] at e235
    rw [show m_components_235L fu (m_components_143L fu f) fu σ (nI many) (nI (q + 6)) (nI i) (nI (U2 P.1 (q + 4))) (0 : Int32) = _ from e235]
    cases h4 : rcA P (U2 P.1 (q + 4)) (q + 6) with
    | error er =>
      exact ⟨mwr σ er.1 er.2, (mfr.sf (by decide)).tr (mfr.sf (by decide)), Or.inr ⟨rfl, (sf_ne (by decide)).trans sf_eq, sf_eq⟩⟩
    | ok r =>
      obtain rfl := rcA_eo _ _ h2 h4
      show mAt _ _ _ (rcT P pl k r) _ σ (m_components_143L fu f σ (nI many) (nI r) (nI i + 1))
      rw [nI_1]
      exact ih r (i + 1) f (by omega) (by omega) h3 hq'
theorem m_components_ok {pl p len : Nat} (h : mPo P N S σ) (g : PG P) (hfu : 131072 < fu) (hp : p + len ≤ P.2.1) : mAt [47, 48, 72] [] pl (recS P pl p len) (fun _ σ' => σ' = sf σ 72 (nI (U2 P.1 p))) σ (m_components fu σ (nI p) (nI (p + len))) := by
  have hn := g.1
  have hu := U2_lt P.1 p
  unfold m_components m_components_0 recS
  rw [pk_sub (by omega), show p + len - p = len by omega]
  by_cases h1 : len < 2
  · rw [if_neg (show ¬ (2 : Int32) ≤ nI len from nI_ge (b := 2) (by omega) (by omega)), if_pos h1]
    exact mAt.er (by omega)
  rw [if_pos (show (2 : Int32) ≤ nI len from nI_le (a := 2) (by omega) (by omega)), if_neg h1, m_u2_ok h.1.1 (by omega), Option.bind_some, nx_eq, nI_2, show m_components_24L fu fu σ (nI p) (nI (p + len)) (nI (U2 P.1 p)) (nI (p + 2)) (0 : Int32) = _ from m_c24 h g hfu hp hu (U2 P.1 p) (p + 2) 0 fu (by omega) (by omega) (by omega)]
  by_cases h2 : rcL P.1 (p + len) (U2 P.1 p) (p + 2) = some (p + len)
  case neg =>
    rw [if_neg h2, if_neg h2]
    exact mAt.er (by omega)
  rw [if_pos h2, if_pos h2]
  exact m_c143 h g hfu hp hu (U2 P.1 p) (p + 2) 0 fu (by omega) (by omega) h2 (by omega)
end MAt2
