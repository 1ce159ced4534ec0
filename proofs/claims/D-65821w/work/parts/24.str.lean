/-! Strings -/
section Str
set_option maxRecDepth 100000
def sb (n : Nat) : Int32 := (nI n).toInt8.toInt32
theorem sb_and : ∀ n, n < 256 → sb n &&& 255 = nI n := by decide +kernel
theorem sb_inj {a b : Nat} (ha : a < 256) (hb : b < 256) : sb a = sb b ↔ a = b := by
  refine ⟨fun h => ?_, fun h => by rw [h]⟩
  have := sb_and a ha
  rw [h, sb_and b hb] at this
  exact ((nI_eq (by omega) (by omega)).mp this).symm
theorem ckN_c {α : Type} {q : Nat} {k : Option α} (h : q < 65536) : ckN .char (nI q) k = k := by
  have e : vp_nar .char (nI q) = nI q := by
    unfold vp_nar
    rw [(pk_charN h).1]
  unfold ckN
  rw [if_pos e]
theorem ckN_b {α : Type} {x : Int32} {k : Option α} (h : vp_nar .byte x = x) : ckN .byte x k = k := by
  unfold ckN
  rw [if_pos h]
/-- a String that reads as t, with no byte to spare -/
def sS (t : List Nat) (s : Nat) (σ : GS) : Prop := gk σ s = 6 ∧ t.length < 65536 ∧ (∀ k, ch t k < 65536) ∧ ∃ v, gr σ s 0 = some v ∧ gk σ v = 101 ∧
  ((gi σ s 1 = 0 ∧ gn σ v = t.length ∧ ∀ k, k < t.length → ch t k < 256 ∧ gi σ v k = sb (ch t k)) ∨
   (gi σ s 1 = 1 ∧ gn σ v = 2 * t.length ∧ (∀ k, k < t.length → gi σ v (2 * k) = sb (ch t k % 256) ∧ gi σ v (2 * k + 1) = sb (ch t k / 256)) ∧ ∃ k, k < t.length ∧ 256 ≤ ch t k))
theorem u2_c {a b : Nat} (ha : a < 256) (hb : b < 256) : ((((sb a) &&& (255 : Int32)) <<< ((0 : Int32) &&& 31)) ||| (((sb b) &&& (255 : Int32)) <<< ((8 : Int32) &&& 31))) = nI (b * 256 + a) := by
  rw [sb_and a ha, sb_and b hb, pk_shlN _ 0 (by decide) (by omega), pk_shlN _ 8 (by decide) (by omega), Int32.or_comm, Nat.pow_zero, Nat.mul_one]
  exact nI_or (k := 8) ha (by omega)
theorem nI_char {n : Nat} (h : n < 65536) : ((nI n).toUInt32 % 65536).toInt32 = nI n := by
  rw [pk_char, pk_tn (by omega), Nat.mod_eq_of_lt h]
theorem x_getChar_ok {σ : GS} {v k c n : Nat} (h1 : gk σ v = 101) (h2 : gn σ v = n) (hn : n < 2 ^ 31) (hk : 2 * k + 1 < n) (hc : c < 65536) (e1 : gi σ v (2 * k) = sb (c % 256)) (e2 : gi σ v (2 * k + 1) = sb (c / 256)) : x_J3_getChar σ v (nI k) = some (nI c) := by
  unfold x_J3_getChar x_J3_getChar_0 x_J3_getChar_28
  rw [if_neg (by decide), nx_eq, nx_eq, pk_shlN _ 1 (by decide) (by omega), show k * 2 ^ 1 = 2 * k by omega, nI_1, ckT, if_pos h1, h2, ckIn_n (by omega) hn, ckIn_n hk hn, nI_clamp (by omega), nI_clamp (by omega), e1, e2, u2_c (by omega) (by omega), show c / 256 * 256 + c % 256 = c by omega, nI_char hc, ckN_c hc]
theorem sS.toxT {t : List Nat} {s : Nat} {σ : GS} (h : sS t s σ) : xT t s σ := by
  obtain ⟨h1, h2, h3, v, h4, h5, h6⟩ := h
  refine ⟨h1, h2, h3, ?_, fun k hk => ?_⟩
  · unfold x_J2_length x_J2_length_0 x_J2_coder x_J2_coder_0
    rw [ckT_ok h1, h4, ckK_ok h5, if_neg (by decide), ckT_ok h1]
    rcases h6 with ⟨e1, e2, -⟩ | ⟨e1, e2, -⟩
    · rw [e1, e2, ckN_b rfl, Option.bind_some, sc_shr0 (by omega)]
    · rw [e1, e2, ckN_b rfl, Option.bind_some, pk_shrN (by omega) _ 1 (by decide)]
      congr 2
      omega
  · have hc := h3 k
    unfold x_J2_charAt x_J2_charAt_0 x_J2_isLatin1 x_J2_isLatin1_0 x_J2_isLatin1_17
    rw [ckT, if_pos h1, if_neg (by decide), ckT, if_pos h1, h4]
    rcases h6 with ⟨e1, e2, e3⟩ | ⟨e1, e2, e3, -⟩
    · rw [e1, if_pos rfl, Option.bind_some, if_neg (by decide)]
      unfold ckR x_J4_charAt x_J4_charAt_0 x_J2_checkIndex x_J2_checkIndex_0 x_J5_checkIndex x_J5_checkIndex_0
      dsimp only
      rw [ckT, if_pos h5, e2, if_neg (nI_pos (by omega)), if_pos (nI_lt hk (by omega)), Option.bind_some, Option.bind_some, ckIn_n hk (by omega), nI_clamp (by omega), (e3 k hk).2, sb_and _ (e3 k hk).1, nI_char hc, ckN_c hc, Option.bind_some, ckN_c hc]
    · rw [e1, if_neg (by decide), Option.bind_some, if_pos rfl]
      unfold ckR x_J3_charAt x_J3_charAt_0 x_J3_checkIndex x_J3_checkIndex_0 x_J2_checkIndex x_J2_checkIndex_0 x_J5_checkIndex x_J5_checkIndex_0 x_J3_length x_J3_length_0
      dsimp only
      rw [ckT, if_pos h5, e2, Option.bind_some, pk_shrN (by omega) _ 1 (by decide), if_neg (nI_pos (by omega)), if_pos (nI_lt (by omega) (by omega)), Option.bind_some, Option.bind_some, Option.bind_some, x_getChar_ok h5 e2 (by omega) (by omega) hc (e3 k hk).1 (e3 k hk).2, Option.bind_some, ckN_c hc, Option.bind_some, ckN_c hc]
theorem txt_ext {t u : List Nat} (hl : t.length = u.length) (h : ∀ k, k < t.length → ch t k = ch u k) : t = u := by
  apply List.ext_getElem hl
  intro i h1 h2
  have := h i h1
  unfold ch at this
  rw [List.getD_eq_getElem?_getD, List.getD_eq_getElem?_getD, List.getElem?_eq_getElem h1, List.getElem?_eq_getElem h2] at this
  exact this
/-- two byte arrays compared -/
theorem x_eq_loop {fu : Nat} {σ : GS} {v w n : Nat} (h1 : gk σ v = 101) (h2 : gk σ w = 101) (hv : gn σ v = n) (hw : gn σ w = n) (hn : n < 2 ^ 31) : ∀ (d k f : Nat), k + d = n → d < f → x_J4_equals_9L fu σ f v w (nI k) = some (bi (∀ j, k ≤ j → j < n → gi σ v j = gi σ w j)) := by
  intro d
  induction d with
  | zero =>
    intro k f hk hf
    obtain ⟨f, rfl⟩ : ∃ z9, f = z9 + 1 := ⟨f - 1, by omega⟩
    show x_J4_equals_9 fu σ _ v w (nI k) = _
    unfold x_J4_equals_9
    have e : k = n := by omega
    subst e
    rw [ckT, if_pos h1, hv, if_pos (nI_le (Nat.le_refl _) (by omega)), bi_t (all_none.mpr trivial)]
  | succ d ih =>
    intro k f hk hf
    obtain ⟨f, rfl⟩ : ∃ z9, f = z9 + 1 := ⟨f - 1, by omega⟩
    show x_J4_equals_9 fu σ (x_J4_equals_9L fu σ f) v w (nI k) = _
    unfold x_J4_equals_9
    rw [ckT, if_pos h1, hv, if_neg (nI_ge (by omega) (by omega)), ckIn_n (by omega) hn, ckT, if_pos h2, hw, ckIn_n (by omega) hn, nI_clamp (by omega), nx_eq, nI_1, ih (k + 1) f (by omega) (by omega), bi_iff (all_step (show k < n by omega))]
    split <;> first | exact congrArg some (bi_iff (by simp_all)) | exact (congrArg some (bi_f (by first | omega | (simp_all; done) | (simp_all; omega)))).symm | exact (congrArg some (bi_t (by first | omega | (simp_all; done) | (simp_all; omega)))).symm
theorem x_bytes_eq {fu : Nat} {σ : GS} {v w n m : Nat} (h1 : gk σ v = 101) (h2 : gk σ w = 101) (hv : gn σ v = n) (hw : gn σ w = m) (hn : n < 2 ^ 31) (hm : m < 2 ^ 31) (hf : n < fu) : x_J4_equals fu σ v w = some (bi (n = m ∧ ∀ j, j < n → gi σ v j = gi σ w j)) := by
  unfold x_J4_equals x_J4_equals_0
  rw [ckT, if_pos h1, ckT, if_pos h2, hv, hw]
  by_cases e : n = m
  · subst e
    rw [if_pos rfl, show (0 : Int32) = nI 0 from rfl, x_eq_loop h1 h2 hv hw hn n 0 fu (by omega) hf]
    exact congrArg some (bi_iff (by simp))
  · rw [if_neg (fun q => e ((nI_eq hn hm).mp q)), bi_f (fun q => e q.1)]
theorem x_equals_ok {fu : Nat} {σ : GS} {t u : List Nat} {s r : Nat} (hs : sS t s σ) (hr : sS u r σ) (hfu : 131072 < fu) : x_J2_equals fu σ s r = some (bi (t = u)) := by
  obtain ⟨h1, h2, h3, v, h4, h5, h6⟩ := hs
  obtain ⟨g1, g2, g3, w, g4, g5, g6⟩ := hr
  unfold x_J2_equals x_J2_equals_0
  by_cases e : s = r
  · subst e
    rw [if_pos rfl]
    have e4 : v = w := Option.some.inj (h4.symm.trans g4)
    subst e4
    rw [bi_t]
    rcases h6 with ⟨a1, a2, a3⟩ | ⟨a1, a2, a3, a4⟩
    · rcases g6 with ⟨b1, b2, b3⟩ | ⟨b1, -⟩
      · refine txt_ext (by omega) fun k hk => ?_
        have x := a3 k hk
        have y := b3 k (by omega)
        exact (sb_inj x.1 y.1).mp (x.2.symm.trans y.2)
      · rw [a1] at b1; exact absurd b1 (by decide)
    · rcases g6 with ⟨b1, -⟩ | ⟨b1, b2, b3, b4⟩
      · rw [a1] at b1; exact absurd b1 (by decide)
      · refine txt_ext (by omega) fun k hk => ?_
        have x := a3 k hk
        have y := b3 k (by omega)
        have z1 := (sb_inj (by omega) (by omega)).mp (x.1.symm.trans y.1)
        have c1 := h3 k
        have c2 := g3 k
        have z2 := (sb_inj (by omega) (by omega)).mp (x.2.symm.trans y.2)
        omega
  · rw [if_neg (fun q => e (Option.some.inj q)), ckT, if_pos g1, if_neg (by decide), if_neg (by decide), ckT, if_pos h1]
    unfold x_J2_equals_36 x_J2_equals_54 ckR
    rw [ckT, if_pos h1, ckT, if_pos g1, h4, g4]
    dsimp only
    rcases h6 with ⟨a1, a2, a3⟩ | ⟨a1, a2, a3, a4⟩
    · rcases g6 with ⟨b1, b2, b3⟩ | ⟨b1, b2, b3, b4⟩
      · rw [a1, b1, if_pos rfl, x_bytes_eq h5 g5 a2 b2 (by omega) (by omega) (by omega), Option.bind_some, if_bi]
        have hiff : (t.length = u.length ∧ ∀ j, j < t.length → gi σ v j = gi σ w j) ↔ t = u := by
          constructor
          · intro ⟨x1, x2⟩
            refine txt_ext x1 fun k hk => ?_
            have x := a3 k hk
            have y := b3 k (by omega)
            exact (sb_inj x.1 y.1).mp (x.2.symm.trans ((x2 k hk).trans y.2))
          · intro x
            subst x
            exact ⟨rfl, fun j hj => (a3 j hj).2.trans (b3 j hj).2.symm⟩
        by_cases q : t = u
        · rw [if_pos (hiff.mpr q), bi_t q]
        · rw [if_neg (fun z => q (hiff.mp z)), bi_f q]
      · rw [a1, b1, if_neg (by decide), bi_f]
        intro x
        subst x
        obtain ⟨k, k1, k2⟩ := b4
        have := (a3 k k1).1
        omega
    · rcases g6 with ⟨b1, b2, b3⟩ | ⟨b1, b2, b3, b4⟩
      · rw [a1, b1, if_neg (by decide), bi_f]
        intro x
        subst x
        obtain ⟨k, k1, k2⟩ := a4
        have := (b3 k k1).1
        omega
      · rw [a1, b1, if_pos rfl, x_bytes_eq h5 g5 a2 b2 (by omega) (by omega) (by omega), Option.bind_some, if_bi]
        have hiff : (2 * t.length = 2 * u.length ∧ ∀ j, j < 2 * t.length → gi σ v j = gi σ w j) ↔ t = u := by
          constructor
          · intro ⟨x1, x2⟩
            refine txt_ext (by omega) fun k hk => ?_
            have x := a3 k hk
            have y := b3 k (by omega)
            have c1 := h3 k
            have c2 := g3 k
            have z1 := (sb_inj (by omega) (by omega)).mp (x.1.symm.trans ((x2 (2 * k) (by omega)).trans y.1))
            have z2 := (sb_inj (by omega) (by omega)).mp (x.2.symm.trans ((x2 (2 * k + 1) (by omega)).trans y.2))
            omega
          · intro x
            subst x
            refine ⟨rfl, fun j hj => ?_⟩
            have x := a3 (j / 2) (by omega)
            have y := b3 (j / 2) (by omega)
            rcases (show j = 2 * (j / 2) ∨ j = 2 * (j / 2) + 1 by omega) with e | e
            · rw [e]; exact x.1.trans y.1.symm
            · rw [e]; exact x.2.trans y.2.symm
        by_cases q : t = u
        · rw [if_pos (hiff.mpr q), bi_t q]
        · rw [if_neg (fun z => q (hiff.mp z)), bi_f q]
/-- the first place of c -/
def fxS (t : List Nat) (c : Nat) : Nat → Nat → Option Nat
  | 0, _ => none
  | d + 1, k => if ch t k = c then some k else fxS t c d (k + 1)
theorem x_ixL_loop {fu : Nat} {σ : GS} {t : List Nat} {v c : Nat} (h1 : gk σ v = 101) (h2 : gn σ v = t.length) (hn : t.length < 65536) (h3 : ∀ k, k < t.length → ch t k < 256 ∧ gi σ v k = sb (ch t k)) (hc : c < 256) : ∀ (d k f : Nat), k + d = t.length → d < f → x_J4_indexOfChar_7L fu σ f v (nI t.length) (sb c) (nI k) = some (oI (fxS t c d k)) := by
  intro d
  induction d with
  | zero =>
    intro k f hk hf
    obtain ⟨f, rfl⟩ : ∃ z9, f = z9 + 1 := ⟨f - 1, by omega⟩
    show x_J4_indexOfChar_7 fu σ _ v _ _ (nI k) = _
    unfold x_J4_indexOfChar_7
    rw [if_pos (nI_le (by omega) (by omega))]
    rfl
  | succ d ih =>
    intro k f hk hf
    obtain ⟨f, rfl⟩ : ∃ z9, f = z9 + 1 := ⟨f - 1, by omega⟩
    show x_J4_indexOfChar_7 fu σ (x_J4_indexOfChar_7L fu σ f) v _ _ (nI k) = _
    unfold x_J4_indexOfChar_7 fxS
    have x := h3 k (by omega)
    rw [if_neg (nI_ge (by omega) (by omega)), ckT, if_pos h1, h2, ckIn_n (by omega) (by omega), nI_clamp (by omega), x.2, nx_eq, nI_1, ih (k + 1) f (by omega) (by omega)]
    have e := sb_inj x.1 hc
    by_cases q : ch t k = c
    · rw [if_pos (e.mpr q), if_pos q]; rfl
    · rw [if_neg (fun z => q (e.mp z)), if_neg q]
theorem x_ixU_loop {fu : Nat} {σ : GS} {t : List Nat} {v c : Nat} (h1 : gk σ v = 101) (h2 : gn σ v = 2 * t.length) (hn : t.length < 65536) (hch : ∀ k, ch t k < 65536) (h3 : ∀ k, k < t.length → gi σ v (2 * k) = sb (ch t k % 256) ∧ gi σ v (2 * k + 1) = sb (ch t k / 256)) (hc : c < 65536) : ∀ (d k f : Nat), k + d = t.length → d < f → x_J3_indexOfCharUnsafe_3L fu σ f v (nI c) (nI t.length) (nI k) = some (oI (fxS t c d k)) := by
  intro d
  induction d with
  | zero =>
    intro k f hk hf
    obtain ⟨f, rfl⟩ : ∃ z9, f = z9 + 1 := ⟨f - 1, by omega⟩
    show x_J3_indexOfCharUnsafe_3 fu σ _ v _ _ (nI k) = _
    unfold x_J3_indexOfCharUnsafe_3
    rw [if_pos (nI_le (by omega) (by omega))]
    rfl
  | succ d ih =>
    intro k f hk hf
    obtain ⟨f, rfl⟩ : ∃ z9, f = z9 + 1 := ⟨f - 1, by omega⟩
    show x_J3_indexOfCharUnsafe_3 fu σ (x_J3_indexOfCharUnsafe_3L fu σ f) v _ _ (nI k) = _
    unfold x_J3_indexOfCharUnsafe_3 fxS
    have x := h3 k (by omega)
    have hk2 := hch k
    rw [if_neg (nI_ge (by omega) (by omega)), x_getChar_ok h1 h2 (by omega) (by omega) hk2 x.1 x.2, Option.bind_some, nx_eq, nI_1, ih (k + 1) f (by omega) (by omega)]
    simp (disch := (first | omega | decide)) only [nI_eqL, nI_leL, nI_ltL, nI_Lle, nI_Llt, nI_eq, nI_leI, nI_ltI]
    split <;> rfl
theorem x_indexOf_ok {fu : Nat} {σ : GS} {t : List Nat} {s c : Nat} (hs : sS t s σ) (hc : c < 65536) (hfu : 65536 < fu) : x_J2_indexOf fu σ s (nI c) = some (oI (fxS t c t.length 0)) := by
  have hx := hs.toxT
  obtain ⟨h1, h2, h3, v, h4, h5, h6⟩ := hs
  unfold x_J2_indexOf x_J2_indexOf_0 x_J2_indexOf_2 x_J2_indexOf_2_0 x_J2_isLatin1 x_J2_isLatin1_0 x_J2_isLatin1_17 ckR
  rw [ckT, if_pos h1, ckT, if_pos h1, if_neg (by decide), ckT, if_pos h1, hx.2.2.2.1, Option.bind_some, Option.bind_some, h4]
  dsimp only
  rcases h6 with ⟨a1, a2, a3⟩ | ⟨a1, a2, a3, a4⟩
  · rw [a1, if_pos rfl, Option.bind_some, if_neg (by decide)]
    unfold x_J4_indexOf x_J4_indexOf_0 x_J4_canEncode_2 x_J4_canEncode_2_0 x_J4_canEncode_2_15 x_J4_indexOfChar x_J4_indexOfChar_0
    simp only [ckT_ok h5, a2, nx_eq]
    rw [if_neg (nI_pos (by omega)), if_neg (show ¬ (0 : Int32) < 0 by decide), if_neg (nI_nlt (Nat.le_refl _) (by omega))]
    by_cases hc2 : c < 256
    · rw [if_neg (show ¬ (255 : Int32) < nI c from nI_nlt (a := 255) (by omega) (by decide)), Option.bind_some, if_neg (by decide)]
      by_cases h0 : 0 < t.length
      · rw [if_pos (show (0 : Int32) < nI t.length from nI_lt (a := 0) h0 (by omega)), show (0 : Int32) = nI 0 from rfl]
        have := x_ixL_loop (fu := fu) h5 a2 h2 a3 hc2 t.length 0 fu (by omega) (by omega)
        unfold sb at this
        rw [this]
        rfl
      · rw [if_neg (show ¬ (0 : Int32) < nI t.length from nI_nlt (a := 0) (by omega) (by decide)), show t.length = 0 by omega]
        rfl
    · rw [if_pos (show (255 : Int32) < nI c from nI_lt (a := 255) (by omega) (by omega)), Option.bind_some, if_pos rfl]
      have : ∀ d k, k + d ≤ t.length → fxS t c d k = none := by
        intro d
        induction d with
        | zero => intro k _; rfl
        | succ d ih =>
          intro k hk
          unfold fxS
          have := (a3 k (by omega)).1
          rw [if_neg (by omega)]
          exact ih (k + 1) (by omega)
      rw [this t.length 0 (by omega)]
      rfl
  · rw [a1, if_neg (by decide), Option.bind_some, if_pos rfl]
    unfold x_J3_indexOf x_J3_indexOf_0 x_J3_indexOfChar x_J3_indexOfChar_0 x_J3_checkBoundsBeginEnd x_J3_checkBoundsBeginEnd_0 x_J3_length x_J3_length_0 x_J2_checkBoundsBeginEnd x_J2_checkBoundsBeginEnd_0 x_J5_checkFromToIndex x_J5_checkFromToIndex_0 x_J3_indexOfCharUnsafe x_J3_indexOfCharUnsafe_0
    obtain ⟨k, k1, k2⟩ := a4
    rw [if_neg (by decide), nx_eq, ckT, if_pos h5, a2, nx_eq, pk_shrN (by omega) _ 1 (by decide), show 2 * t.length / 2 ^ 1 = t.length by omega, if_neg (nI_nlt (Nat.le_refl _) (by omega)), if_pos (show (0 : Int32) < nI t.length from nI_lt (a := 0) (by omega) (by omega)), if_neg (show ¬ (65536 : Int32) ≤ nI c from nI_ge (b := 65536) (by omega) (by decide)), ckT, if_pos h5, Option.bind_some, if_neg (by decide), if_neg (show ¬ nI t.length < (0 : Int32) from nI_pos (by omega)), if_pos (nI_le (Nat.le_refl _) (by omega)), Option.bind_some, Option.bind_some, Option.bind_some, show (0 : Int32) = nI 0 from rfl, x_ixU_loop h5 a2 h2 h3 a3 hc t.length 0 fu (by omega) (by omega)]
    rfl
theorem fxS_none {t : List Nat} {c : Nat} : ∀ d k, fxS t c d k = none ↔ ∀ j, k ≤ j → j < k + d → ch t j ≠ c := by
  intro d
  induction d with
  | zero => intro k; exact ⟨fun _ j h1 h2 => by omega, fun _ => rfl⟩
  | succ d ih =>
    intro k
    unfold fxS
    by_cases q : ch t k = c
    · rw [if_pos q]
      exact ⟨fun h => (by cases h), fun h => absurd q (h k (by omega) (by omega))⟩
    · rw [if_neg q, ih (k + 1)]
      constructor
      · intro h j h1 h2
        by_cases e : j = k
        · subst e; exact q
        · exact h j (by omega) (by omega)
      · intro h j h1 h2
        exact h j (by omega) (by omega)
theorem fxS_lt {t : List Nat} {c e : Nat} : ∀ d k, fxS t c d k = some e → e < k + d := by
  intro d
  induction d with
  | zero => intro k h; cases h
  | succ d ih =>
    intro k h
    unfold fxS at h
    split at h
    · cases h; omega
    · have := ih _ h; omega
theorem x_hasAngles_ok {fu : Nat} {σ : GS} {t : List Nat} {s : Nat} (hs : sS t s σ) (hfu : 65536 < fu) : x_hasAngles fu σ s = some (bi (AnglesS t)) := by
  unfold x_hasAngles x_hasAngles_0 x_hasAngles_18
  have h2 := hs.2.1
  rw [ckT, if_pos hs.1, show (60 : Int32) = nI 60 from rfl, show (62 : Int32) = nI 62 from rfl, x_indexOf_ok hs (by omega) hfu, x_indexOf_ok hs (by omega) hfu, Option.bind_some, Option.bind_some]
  have e : ∀ c, (oI (fxS t c t.length 0) < 0 ↔ ∀ j, j < t.length → ch t j ≠ c) := by
    intro c
    rw [oI_neg (fun e he => by have := fxS_lt _ _ he; omega), fxS_none]
    exact ⟨fun h j hj => h j (by omega) (by omega), fun h j _ hj => h j (by omega)⟩
  have e2 : ∀ x : Int32, (0 ≤ x ↔ ¬ x < 0) := fun x => by simp only [Int32.lt_iff_toInt_lt, Int32.le_iff_toInt_le]; omega
  unfold AnglesS
  by_cases q1 : oI (fxS t 60 t.length 0) < 0
  · rw [if_neg (fun z => ((e2 _).mp z) q1)]
    by_cases q2 : oI (fxS t 62 t.length 0) < 0
    · rw [if_pos q2, bi_f]
      intro ⟨j, x1, x2⟩
      rcases x2 with x2 | x2
      · exact ((e 60).mp q1) j x1 x2
      · exact ((e 62).mp q2) j x1 x2
    · rw [if_neg q2, bi_t]
      apply Classical.byContradiction
      intro z
      exact q2 ((e 62).mpr (fun j hj hj2 => z ⟨j, hj, Or.inr hj2⟩))
  · rw [if_pos ((e2 _).mpr q1), bi_t]
    apply Classical.byContradiction
    intro z
    exact q1 ((e 60).mpr (fun j hj hj2 => z ⟨j, hj, Or.inl hj2⟩))
/-- KINDS -/
theorem kinds_xKI {fu : Nat} {σ : GS} (h : sS [90, 67, 70, 68, 66, 83, 73, 74] (gz σ 0) σ) (hfu : 65536 < fu) : xKI fu σ := by
  refine ⟨h.1, fun c hc => ?_⟩
  rw [x_indexOf_ok h hc hfu]
  congr 2
  show fxS [90, 67, 70, 68, 66, 83, 73, 74] c 8 0 = kix c
  unfold kix
  simp only [fxS, ch, List.getD_cons_zero, List.getD_cons_succ, eq_comm (b := c)]
end Str
