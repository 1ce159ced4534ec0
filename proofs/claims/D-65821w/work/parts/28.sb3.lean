/-! StringBuilder: toString -/
section Sb3
set_option maxRecDepth 100000
/-- the first n bytes of v, in a new array -/
theorem x_copyOfRange_ok {σ : GS} {v n : Nat} (hw : WF σ) (h1 : gk σ v = 101) (hb : gb σ ≤ v) (hn : n ≤ gn σ v) (hm : gn σ v ≤ 100000) (hroom : 1 ≤ gc σ ∧ n ≤ gs σ) : ∃ σ', x_J13_copyOfRange σ v (0 : Int32) (nI n) = some (some (gx σ), σ') ∧ Fr (fun _ => False) σ σ' ∧ gc σ' = gc σ - 1 ∧ gs σ' = gs σ - n ∧ gx σ' = gx σ + 1 ∧ gk σ' (gx σ) = 101 ∧ gn σ' (gx σ) = n ∧ ∀ j, j < n → gi σ' (gx σ) j = gi σ v j := by
  have lv : v < gx σ := hw.lt (by rw [h1]; decide)
  unfold x_J13_copyOfRange x_J13_copyOfRange_0
  rw [if_pos rfl, ckT_ok h1]
  by_cases e : n = gn σ v
  · rw [if_pos (by rw [e]), ckW_ok hb, ckC_ok (by omega), nx_eq, nx_eq, ckW_ok (show gb (gcln σ v) ≤ gx σ from hw.2)]
    refine ⟨_, rfl, Fr.cln, rfl, by rw [e]; rfl, rfl, if_pos rfl, by rw [e]; exact if_pos rfl, fun j _ => if_pos rfl⟩
  · rw [if_neg (fun q => e ((nI_eq (by omega) (by omega)).mp q))]
    unfold x_J13_copyOfRange_10 x_J13_copyOfRangeByte x_J13_copyOfRangeByte_0 x_J13_checkLength x_J13_checkLength_0
    rw [if_pos (show (0 : Int32) ≤ nI n from nI_pos' (by omega)), Option.bind_some, nx_eq, show nI n - (0 : Int32) = nI n from pk_sub (b := 0) (by omega), ckL_ok (by omega), nI_clamp (by omega), ckC_ok hroom, nx_eq, nx_eq]
    have k1 : gk (gnew σ 101 n n) v = 101 := by rw [gk_gnew, if_neg (by omega)]; exact h1
    have n1 : gn (gnew σ 101 n n) v = gn σ v := by rw [gn_gnew, if_neg (by omega)]
    have n2 : gn (gnew σ 101 n n) (gx σ) = n := by rw [gn_gnew, if_pos rfl]
    rw [ckT_ok k1, n1, show nI (gn σ v) - (0 : Int32) = nI (gn σ v) from pk_sub (b := 0) (by omega), if_pos (nI_lt (by omega) (by omega))]
    have hy : (0 ≤ (0 : Int32) ∧ 0 ≤ (0 : Int32) ∧ 0 ≤ nI n) ∧ ((0 : Int32).toNatClampNeg + (nI n).toNatClampNeg ≤ gn (gnew σ 101 n n) v ∧ (0 : Int32).toNatClampNeg + (nI n).toNatClampNeg ≤ gn (gnew σ 101 n n) (gx σ)) ∧ gb (gnew σ 101 n n) ≤ v ∧ gb (gnew σ 101 n n) ≤ gx σ := by
      rw [nI_clamp (by omega), n1, n2]
      exact ⟨⟨by decide, by decide, nI_pos' (by omega)⟩, ⟨by show 0 + n ≤ _; omega, by show 0 + n ≤ n; omega⟩, hb, hw.2⟩
    rw [ckY, if_pos hy, nx_eq, nI_clamp (by omega), Option.bind_some]
    refine ⟨_, rfl, ?_, rfl, rfl, rfl, ?_, n2, fun j hj => ?_⟩
    · have f1 : Fr (fun a => a = gx σ) (gnew σ 101 n n) (gcpy (gnew σ 101 n n) v (gx σ) (0 : Int32).toNatClampNeg (0 : Int32).toNatClampNeg n) := Fr.cpy rfl
      exact (Fr.new (W := fun _ => False)).tr f1 (fun _ _ q => q) (fun a ha q => by have q : a = gx σ := q; omega)
    · show gk (gnew σ 101 n n) (gx σ) = 101
      rw [gk_gnew, if_pos rfl]
    · show (if gx σ = gx σ then va_cpy (gi (gnew σ 101 n n) v) (gi (gnew σ 101 n n) (gx σ)) 0 0 n j else _) = _
      rw [if_pos rfl, pk_cpy_in (by omega) (by omega), gi_gnew, if_neg (by omega)]
      congr 1
      omega
/-- the number of characters from i on that fit a byte, up to the first that doesn't -/
def latS (t : List Nat) : Nat → Nat → Nat
  | 0, k => k
  | d + 1, k => if ch t k ≤ 255 then latS t d (k + 1) else k
theorem latS_le (t : List Nat) : ∀ d k, k ≤ latS t d k ∧ latS t d k ≤ k + d ∧ (∀ j, k ≤ j → j < latS t d k → ch t j < 256) ∧ (latS t d k < k + d → 256 ≤ ch t (latS t d k)) := by
  intro d
  induction d with
  | zero => intro k; exact ⟨Nat.le_refl _, Nat.le_refl _, fun j h1 h2 => by unfold latS at h2; omega, fun h => by unfold latS at h; omega⟩
  | succ d ih =>
    intro k
    unfold latS
    obtain ⟨i1, i2, i3, i4⟩ := ih (k + 1)
    by_cases q : ch t k ≤ 255
    · rw [if_pos q]
      refine ⟨by omega, by omega, fun j h1 h2 => ?_, fun h => i4 (by omega)⟩
      by_cases e : j = k
      · subst e; omega
      · exact i3 j (by omega) h2
    · rw [if_neg q]
      exact ⟨Nat.le_refl _, by omega, fun j h1 h2 => by omega, fun _ => by omega⟩
theorem x_comp_loop {fu : Nat} {t : List Nat} {v w : Nat} (hvw : v ≠ w) (hch : ∀ k, ch t k < 65536) : ∀ (d i f : Nat) (σ : GS), i + d = t.length → d < f → gk σ v = 101 → gk σ w = 101 → gb σ ≤ w → 2 * t.length ≤ gn σ v → gn σ v < 2 ^ 31 → gn σ w = t.length → (∀ k, k < t.length → gi σ v (2 * k) = sb (ch t k % 256) ∧ gi σ v (2 * k + 1) = sb (ch t k / 256)) → (∀ k, k < i → gi σ w k = sb (ch t k % 256)) →
    ∃ σ', x_J3_compress_2_10L fu f σ v (nI i) w (nI i) (nI t.length) (nI i) = some (nI (latS t d i), σ') ∧ Fr (fun a => a = w) σ σ' ∧ gc σ' = gc σ ∧ gs σ' = gs σ ∧ gx σ' = gx σ ∧ (∀ k, k < latS t d i → gi σ' w k = sb (ch t k % 256)) := by
  intro d
  induction d with
  | zero =>
    intro i f σ hi hf h1 h2 h3 h4 h4b h5 h8 h9
    obtain ⟨f, rfl⟩ : ∃ z9, f = z9 + 1 := ⟨f - 1, by omega⟩
    show ∃ σ', x_J3_compress_2_10 fu _ σ v (nI i) w (nI i) (nI t.length) (nI i) = some (nI (latS t 0 i), σ') ∧ _
    unfold x_J3_compress_2_10 latS
    rw [if_pos (nI_le (by omega) (by omega))]
    exact ⟨σ, by rw [show t.length = i by omega], Fr.rf, rfl, rfl, rfl, h9⟩
  | succ d ih =>
    intro i f σ hi hf h1 h2 h3 h4 h4b h5 h8 h9
    obtain ⟨f, rfl⟩ : ∃ z9, f = z9 + 1 := ⟨f - 1, by omega⟩
    show ∃ σ', x_J3_compress_2_10 fu (x_J3_compress_2_10L fu f) σ v (nI i) w (nI i) (nI t.length) (nI i) = some (nI (latS t (d + 1) i), σ') ∧ _
    unfold x_J3_compress_2_10 latS
    have x := h8 i (by omega)
    have hc := hch i
    rw [if_neg (nI_ge (by omega) (by omega)), x_getChar_ok h1 rfl h4b (by omega) hc x.1 x.2, Option.bind_some]
    by_cases q : ch t i ≤ 255
    · rw [if_pos (show nI (ch t i) ≤ (255 : Int32) from nI_le (b := 255) q (by decide)), if_pos q, ckT_ok h2, ckW_ok h3, h5, ckIn_n (by omega) (by omega), nx_eq, nx_eq, nx_eq, nx_eq, nI_clamp (by omega), nI_1, sb_mod, sb_idem]
      obtain ⟨σ', y1, y2, y3, y4, y5, y6⟩ := ih (i + 1) f (gpi σ w i (sb (ch t i % 256))) (by omega) (by omega) h1 h2 h3 h4 h4b h5 (fun k hk => by
        rw [gi_gpi_ne (Or.inl hvw), gi_gpi_ne (Or.inl hvw)]
        exact h8 k hk) (fun k hk => by
        by_cases e : k = i
        · subst e; rw [gi_gpi_eq]
        · rw [gi_gpi_ne (Or.inr e)]; exact h9 k (by omega))
      exact ⟨σ', y1, (Fr.pi (W := fun a => a = w) rfl).tr y2 (fun _ _ q => q) (fun _ _ q => q), y3, y4, y5, y6⟩
    · rw [if_neg (show ¬ nI (ch t i) ≤ (255 : Int32) from nI_ge (a := 255) (by omega) (by omega)), if_neg q]
      exact ⟨σ, rfl, Fr.rf, rfl, rfl, rfl, h9⟩
theorem nI_or3 {a b : Nat} (ha : a < 2 ^ 31) (hb : b < 2 ^ 31) : ¬ ((nI a ||| (0 : Int32)) ||| nI b) < 0 := by
  have e9 : (nI a ||| (0 : Int32)) ||| nI b = nI (a ||| b) := by
    apply Int32.toBitVec_inj.mp
    rw [Int32.toBitVec_or, Int32.toBitVec_or]
    apply BitVec.eq_of_toNat_eq
    rw [BitVec.toNat_or, BitVec.toNat_or, pk_tn (by omega), pk_tn (by omega), pk_tn (Nat.lt_trans (Nat.or_lt_two_pow (n := 31) (by omega) (by omega)) (by decide))]
    show a ||| 0 ||| b = _
    rw [Nat.or_zero]
  rw [e9]
  exact nI_pos (Nat.or_lt_two_pow (n := 31) (by omega) (by omega))
/-- compress(val, 0, len): Latin-1 if all fit, the wide bytes if not -/
theorem x_compress_ok {fu : Nat} {t : List Nat} {v : Nat} {σ : GS} (hw : WF σ) (h1 : gk σ v = 101) (hb : gb σ ≤ v) (hch : ∀ k, ch t k < 65536) (h2 : 2 * t.length ≤ gn σ v) (h3 : gn σ v ≤ 10000) (h4 : ∀ k, k < t.length → gi σ v (2 * k) = sb (ch t k % 256) ∧ gi σ v (2 * k + 1) = sb (ch t k / 256)) (hroom : 2 ≤ gc σ ∧ 3 * t.length ≤ gs σ) (hf : 65536 < fu) :
    ∃ σ' w, x_J3_compress fu σ v (0 : Int32) (nI t.length) = some (some w, σ') ∧ Fr (fun _ => False) σ σ' ∧ gx σ ≤ w ∧ gk σ' w = 101 ∧ gc σ ≤ gc σ' + 2 ∧ gs σ ≤ gs σ' + 3 * t.length ∧
      ((gn σ' w = t.length ∧ ∀ k, k < t.length → ch t k < 256 ∧ gi σ' w k = sb (ch t k)) ∨
       (gn σ' w = 2 * t.length ∧ (∀ k, k < t.length → gi σ' w (2 * k) = sb (ch t k % 256) ∧ gi σ' w (2 * k + 1) = sb (ch t k / 256)) ∧ ∃ k, k < t.length ∧ 256 ≤ ch t k)) := by
  have lv : v < gx σ := hw.lt (by rw [h1]; decide)
  unfold x_J3_compress x_J3_compress_0
  rw [ckL_ok (by omega), nI_clamp (by omega), ckC_ok (by omega), nx_eq, nx_eq]
  generalize hs1 : gnew σ 101 t.length t.length = σ1
  have fr1 : Fr (fun _ => False) σ σ1 := by rw [← hs1]; exact Fr.new
  have x1 : gx σ1 = gx σ + 1 := by rw [← hs1]; rfl
  have c1 : gc σ1 = gc σ - 1 := by rw [← hs1]; rfl
  have s1 : gs σ1 = gs σ - t.length := by rw [← hs1]; rfl
  have kv : gk σ1 v = 101 := fr1.gk hw h1 (by decide)
  have nv : gn σ1 v = gn σ v := (fr1.2.2.2.1 v lv).2
  have iv : ∀ j, gi σ1 v j = gi σ v j := fun j => (fr1.2.2.2.2.1 v lv (fun q => q) j).1
  have kw : gk σ1 (gx σ) = 101 := by rw [← hs1, gk_gnew, if_pos rfl]
  have nw : gn σ1 (gx σ) = t.length := by rw [← hs1, gn_gnew, if_pos rfl]
  have hw1 : WF σ1 := fr1.2.2.2.2.2 hw
  unfold x_J3_compress_2 x_J3_compress_2_0 x_J3_checkBoundsOffCount x_J3_checkBoundsOffCount_0 x_J3_length x_J3_length_0 x_J2_checkBoundsOffCount x_J2_checkBoundsOffCount_0 x_J5_checkFromIndexSize x_J5_checkFromIndexSize_0
  rw [ckT_ok kv, nv, Option.bind_some, pk_shrN (by omega) _ 1 (by decide), if_neg (nI_or3 (by omega) (by omega)), show nI (gn σ v / 2 ^ 1) - (0 : Int32) = nI (gn σ v / 2 ^ 1) from pk_sub (b := 0) (by omega), if_pos (nI_le (by omega) (by omega)), Option.bind_some, Option.bind_some, Option.bind_some, show (0 : Int32) = nI 0 from rfl]
  obtain ⟨σ2, y1, y2, y3, y4, y5, y6⟩ := x_comp_loop (fu := fu) (t := t) (v := v) (w := gx σ) (by omega) hch t.length 0 fu σ1 (by omega) (by omega) kv kw (by rw [fr1.2.1]; exact hw.2) (by omega) (by omega) nw (fun k hk => by rw [iv, iv]; exact h4 k hk) (fun k hk => by omega)
  rw [y1, Option.bind_some]
  obtain ⟨l1, l2, l3, l4⟩ := latS_le t t.length 0
  have fr2 : Fr (fun _ => False) σ σ2 := fr1.tr y2 (fun _ _ q => q) (fun a ha q => by have q : a = gx σ := q; omega)
  have hw2 : WF σ2 := fr2.2.2.2.2.2 hw
  by_cases hall : latS t t.length 0 = t.length
  · rw [if_pos (by rw [hall])]
    refine ⟨σ2, gx σ, rfl, fr2, Nat.le_refl _, y2.gk hw1 kw (by decide), by omega, by omega, Or.inl ⟨by rw [(y2.2.2.2.1 (gx σ) (by omega)).2]; exact nw, fun k hk => ?_⟩⟩
    have := l3 k (by omega) (by omega)
    refine ⟨this, ?_⟩
    rw [y6 k (by omega), Nat.mod_eq_of_lt this]
  · have hlt : latS t t.length 0 < t.length := by omega
    rw [if_neg (fun q => hall ((nI_eq (by omega) (by omega)).mp q))]
    unfold x_J3_newBytesLength x_J3_newBytesLength_0
    have kv2 : gk σ2 v = 101 := fr2.gk hw h1 (by decide)
    have nv2 : gn σ2 v = gn σ v := (fr2.2.2.2.1 v lv).2
    rw [nI_add, Nat.zero_add, if_pos (show (0 : Int32) ≤ nI t.length from nI_pos' (by omega)), if_pos (show nI t.length < (1073741823 : Int32) from nI_lt (b := 1073741823) (by omega) (by decide)), Option.bind_some, pk_shlN _ 1 (by decide) (by omega), pk_shlN _ 1 (by decide) (by omega), show t.length * 2 ^ 1 = 2 * t.length by omega]
    obtain ⟨σ3, z1, z2, z3, z4, z5, z6, z7, z8⟩ := x_copyOfRange_ok (n := 2 * t.length) hw2 kv2 (by rw [fr2.2.1]; exact hb) (by omega) (by omega) ⟨by omega, by omega⟩
    rw [show nI (0 * 2 ^ 1) = (0 : Int32) from rfl, z1, Option.bind_some, ckR_ok]
    have iv2 : ∀ j, gi σ2 v j = gi σ v j := fun j => (fr2.2.2.2.2.1 v lv (fun q => q) j).1
    have i3 : ∀ k, k < t.length → gi σ3 (gx σ2) (2 * k) = sb (ch t k % 256) ∧ gi σ3 (gx σ2) (2 * k + 1) = sb (ch t k / 256) := fun k hk => by
      rw [z8 _ (by omega), z8 _ (by omega), iv2, iv2]
      exact h4 k hk
    have hgt := l4 (by omega)
    rw [x_getChar_ok z6 z7 (by omega) (by omega) (hch _) (i3 _ hlt).1 (i3 _ hlt).2, Option.bind_some, if_pos (show (255 : Int32) < nI (ch t (latS t t.length 0)) from nI_lt (a := 255) (by omega) (by have := hch (latS t t.length 0); omega))]
    unfold x_J3_compress_61
    refine ⟨σ3, gx σ2, rfl, fr2.tr z2 (fun _ _ q => q) (fun _ _ q => q), fr2.1, z6, by omega, by omega, Or.inr ⟨z7, i3, ⟨_, hlt, hgt⟩⟩⟩
theorem x_coder_ok {σ : GS} {w n m : Nat} (h1 : gk σ w = 101) (h2 : gn σ w = m) (hn : n ≤ 5000) (hm : m = n ∨ (m = 2 * n ∧ 0 < n)) : x_J3_coderFromArrayLen σ w (nI n) = some (if m = n then 0 else 1) := by
  unfold x_J3_coderFromArrayLen x_J3_coderFromArrayLen_0
  rw [ckT_ok h1, h2]
  rcases hm with rfl | ⟨rfl, h0⟩
  · rw [if_pos rfl, pk_sub (Nat.le_refl _), Nat.sub_self, show ((((nI 0).toUInt32 >>> ((31 : Int32).toUInt32 &&& Int32.toUInt32 31)).toInt32).toInt8.toInt32) = 0 by decide]
    rfl
  · rw [if_neg (by omega)]
    have e : ((((nI n - nI (2 * n)).toUInt32 >>> ((31 : Int32).toUInt32 &&& Int32.toUInt32 31)).toInt32)) = 1 := by
      apply Int32.toBitVec_inj.mp
      apply BitVec.eq_of_toNat_eq
      rw [pk_ushr _ _ 31 (by decide)]
      have e2 : (nI n - nI (2 * n)).toBitVec.toNat = 2 ^ 32 - n := by
        rw [Int32.toBitVec_sub, BitVec.toNat_sub, pk_tn (by omega), pk_tn (by omega)]
        omega
      rw [e2]
      show _ = 1
      omega
    rw [e]
    rfl
/-- toString() -/
theorem x_toString_ok {fu : Nat} {t : List Nat} {b v : Nat} {σ : GS} (hw : WF σ) (h : bS t b v σ) (hroom : 3 ≤ gc σ ∧ 4 + 3 * t.length ≤ gs σ) (hf : 65536 < fu) : ∃ σ', x_J1_toString fu σ b = some (some (gx σ), σ') ∧ sS t (gx σ) σ' ∧ Fr (fun _ => False) σ σ' ∧ gc σ ≤ gc σ' + 3 ∧ gs σ ≤ gs σ' + (4 + 3 * t.length) ∧ (∀ w, gr σ' (gx σ) 0 = some w → gx σ < w) := by
  have hne := h.ne
  obtain ⟨h1, h2, h3, h4, h5, h6, h7, h8⟩ := h
  have lb : b < gx σ := hw.lt (by rw [h1]; decide)
  have lv : v < gx σ := hw.lt (by rw [h3]; decide)
  unfold x_J1_toString x_J1_toString_0 x_J2_init x_J2_init_0 x_J2_init_2 x_J2_init_2_0 x_J0_getValue x_J0_getValue_0 x_J1_length x_J1_length_0 x_J0_length x_J0_length_0 x_J0_isLatin1 x_J0_isLatin1_0 x_J0_isLatin1_17
  rw [ckC_ok (by omega), nx_eq, nx_eq]
  generalize hs1 : gnew σ 6 0 4 = σ1
  have fr1 : Fr (fun _ => False) σ σ1 := by rw [← hs1]; exact Fr.new
  have x1 : gx σ1 = gx σ + 1 := by rw [← hs1]; rfl
  have c1 : gc σ1 = gc σ - 1 := by rw [← hs1]; rfl
  have s1 : gs σ1 = gs σ - 4 := by rw [← hs1]; rfl
  have kb : gk σ1 b = 5 := fr1.gk hw h1 (by decide)
  have kv : gk σ1 v = 101 := fr1.gk hw h3 (by decide)
  have ks : gk σ1 (gx σ) = 6 := by rw [← hs1, gk_gnew, if_pos rfl]
  have nv : gn σ1 v = gn σ v := (fr1.2.2.2.1 v lv).2
  have iv : ∀ j, gi σ1 v j = gi σ v j := fun j => (fr1.2.2.2.2.1 v lv (fun q => q) j).1
  have ib : ∀ j, gi σ1 b j = gi σ b j ∧ gl σ1 b j = gl σ b j ∧ gr σ1 b j = gr σ b j := fun j => fr1.2.2.2.2.1 b lb (fun q => q) j
  have hw1 : WF σ1 := fr1.2.2.2.2.2 hw
  have hgb : gb σ1 = gb σ := fr1.2.1
  simp only [ckT_ok kb, (ib 0).2.2, h2, Option.bind_some, (ib 3).1, h5, (ib 1).1, (ib 2).1, ckR_ok]
  rw [if_neg (show ¬ (1 : Int32) = 0 by decide)]
  -- a String over the new array w
  have mk : ∀ (σ2 : GS) (w : Nat) (cd : Int32), Fr (fun a => a = gx σ) σ1 σ2 → gx σ1 ≤ w → gk σ2 w = 101 → gc σ1 ≤ gc σ2 + 2 → gs σ1 ≤ gs σ2 + 3 * t.length → ((cd = 0 ∧ gn σ2 w = t.length ∧ ∀ k, k < t.length → ch t k < 256 ∧ gi σ2 w k = sb (ch t k)) ∨ (cd = 1 ∧ gn σ2 w = 2 * t.length ∧ (∀ k, k < t.length → gi σ2 w (2 * k) = sb (ch t k % 256) ∧ gi σ2 w (2 * k + 1) = sb (ch t k / 256)) ∧ ∃ k, k < t.length ∧ 256 ≤ ch t k)) →
      ∀ σ3 : GS, (∀ a, gk σ3 a = gk σ2 a) → (∀ a, gn σ3 a = gn σ2 a) → (∀ j, gi σ3 w j = gi σ2 w j) → gi σ3 (gx σ) 1 = cd → gr σ3 (gx σ) 0 = some w → Fr (fun a => a = gx σ) σ2 σ3 → gc σ3 = gc σ2 → gs σ3 = gs σ2 →
      sS t (gx σ) σ3 ∧ Fr (fun _ => False) σ σ3 ∧ gc σ ≤ gc σ3 + 3 ∧ gs σ ≤ gs σ3 + (4 + 3 * t.length) ∧ (∀ w, gr σ3 (gx σ) 0 = some w → gx σ < w) := by
    intro σ2 w cd f2 lw k2 c2 s2 hd σ3 e1 e2 e3 e4 e5 f3 c3 s3
    refine ⟨⟨by rw [e1]; exact f2.gk hw1 ks (by decide), by omega, h7, w, e5, by rw [e1]; exact k2, ?_⟩, ?_, by omega, by omega, fun w' hw' => ?_⟩
    · rcases hd with ⟨d1, d2, d3⟩ | ⟨d1, d2, d3, d4⟩
      · exact Or.inl ⟨by rw [e4, d1], by rw [e2]; exact d2, fun k hk => ⟨(d3 k hk).1, by rw [e3]; exact (d3 k hk).2⟩⟩
      · exact Or.inr ⟨by rw [e4, d1], by rw [e2]; exact d2, fun k hk => by rw [e3, e3]; exact d3 k hk, d4⟩
    · exact (fr1.tr f2 (fun _ _ q => q) (fun a ha q => by have q : a = gx σ := q; omega)).tr f3 (fun _ _ q => q) (fun a ha q => by have q : a = gx σ := q; omega)
    · rw [e5] at hw'
      cases hw'
      omega
  rcases h8 with ⟨e1, e2, e3, e4⟩ | ⟨e1, ⟨q, e2, e5, e3⟩, e4, e6⟩
  · rw [if_pos e1, Option.bind_some, if_neg (by decide), ckT_ok ks, ckW_ok (by rw [hgb]; exact hw.2), nx_eq]
    have hw1b : WF (gpi σ1 (gx σ) 1 0) := hw1
    obtain ⟨σ2, z1, z2, z3, z4, z5, z6, z7, z8⟩ := x_copyOfRange_ok (σ := gpi σ1 (gx σ) 1 0) (v := v) (n := t.length) hw1b kv (by show gb σ1 ≤ v; rw [hgb]; exact h4) (by show t.length ≤ gn σ1 v; omega) (by show gn σ1 v ≤ _; omega) ⟨by show 1 ≤ gc σ1; omega, by show t.length ≤ gs σ1; omega⟩
    rw [z1, Option.bind_some]
    have ks2 : gk σ2 (gx σ) = 6 := z2.gk hw1b ks (by decide)
    rw [ckT_ok ks2, ckW_ok (by rw [z2.2.1]; show gb σ1 ≤ _; rw [hgb]; exact hw.2), nx_eq, Option.bind_some, Option.bind_some]
    refine ⟨_, rfl, mk σ2 (gx σ1) 0 ((Fr.pi (W := fun a => a = gx σ) rfl).tr z2 (fun _ _ q => q) (fun _ _ q => q.elim)) (Nat.le_refl _) z6 ?_ ?_ (Or.inl ⟨rfl, z7, fun k hk => ⟨(e4 k hk).1, ?_⟩⟩) _ (fun _ => rfl) (fun _ => rfl) (fun _ => rfl) ?_ gr_gpr_eq (Fr.pr rfl) rfl rfl⟩
    · have z3 : gc σ2 = gc σ1 - 1 := z3
      omega
    · have z4 : gs σ2 = gs σ1 - t.length := z4
      omega
    · have := z8 k hk
      show gi σ2 (gx σ1) k = _
      have z9 : gi σ2 (gx σ1) k = gi (gpi σ1 (gx σ) 1 0) v k := z8 k hk
      rw [z9, gi_gpi_ne (Or.inl (by omega)), iv]
      exact (e4 k hk).2
    · show gi σ2 (gx σ) 1 = 0
      rw [(z2.2.2.2.2.1 (gx σ) (by show gx σ < gx σ1; omega) (fun q => q) 1).1, gi_gpi_eq]
  · rw [if_neg (by rw [e1]; decide), Option.bind_some, if_pos rfl, if_neg (show ¬ (1 : Int32) = 0 by decide)]
    have hwide : ∀ hz : True, (∃ k, k < t.length ∧ 256 ≤ ch t k) → ∃ σ', ((x_J2_init_2_79 fu σ1 (gx σ) (some v) (nI t.length)).bind fun r1 => some r1).bind (fun r5 => some (some (gx σ), r5)) = some (some (gx σ), σ') ∧ sS t (gx σ) σ' ∧ Fr (fun _ => False) σ σ' ∧ gc σ ≤ gc σ' + 3 ∧ gs σ ≤ gs σ' + (4 + 3 * t.length) ∧ (∀ w, gr σ' (gx σ) 0 = some w → gx σ < w) := by
      intro _ e6
      unfold x_J2_init_2_79
      rw [ckT_ok ks, ckW_ok (by rw [hgb]; exact hw.2), nx_eq, ckR_ok, pk_shlN _ 1 (by decide) (by omega), show t.length * 2 ^ 1 = 2 * t.length by omega]
      have hw1b : WF (gpi σ1 (gx σ) 1 1) := hw1
      obtain ⟨σ2, z1, z2, z3, z4, z5, z6, z7, z8⟩ := x_copyOfRange_ok (σ := gpi σ1 (gx σ) 1 1) (v := v) (n := 2 * t.length) hw1b kv (by show gb σ1 ≤ v; rw [hgb]; exact h4) (by show 2 * t.length ≤ gn σ1 v; omega) (by show gn σ1 v ≤ _; omega) ⟨by show 1 ≤ gc σ1; omega, by show 2 * t.length ≤ gs σ1; omega⟩
      rw [z1, Option.bind_some]
      have ks2 : gk σ2 (gx σ) = 6 := z2.gk hw1b ks (by decide)
      rw [ckT_ok ks2, ckW_ok (by rw [z2.2.1]; show gb σ1 ≤ _; rw [hgb]; exact hw.2), nx_eq, Option.bind_some, Option.bind_some]
      refine ⟨_, rfl, mk σ2 (gx σ1) 1 ((Fr.pi (W := fun a => a = gx σ) rfl).tr z2 (fun _ _ q => q) (fun _ _ q => q.elim)) (Nat.le_refl _) z6 ?_ ?_ (Or.inr ⟨rfl, z7, fun k hk => ?_, e6⟩) _ (fun _ => rfl) (fun _ => rfl) (fun _ => rfl) ?_ gr_gpr_eq (Fr.pr rfl) rfl rfl⟩
      · have z3 : gc σ2 = gc σ1 - 1 := z3
        omega
      · have z4 : gs σ2 = gs σ1 - 2 * t.length := z4
        omega
      · have z9 : ∀ j, j < 2 * t.length → gi σ2 (gx σ1) j = gi (gpi σ1 (gx σ) 1 1) v j := z8
        rw [z9 _ (by omega), z9 _ (by omega), gi_gpi_ne (Or.inl (by omega)), gi_gpi_ne (Or.inl (by omega)), iv, iv]
        exact e4 k hk
      · show gi σ2 (gx σ) 1 = 1
        rw [(z2.2.2.2.2.1 (gx σ) (by show gx σ < gx σ1; omega) (fun q => q) 1).1, gi_gpi_eq]
    by_cases hml : gi σ b 2 = 0
    · rw [if_pos hml]
      exact hwide trivial (e6.resolve_left (fun q => q hml))
    · rw [if_neg hml]
      obtain ⟨σ2, w, z1, z2, z3, z4, z5, z6, z7⟩ := x_compress_ok (fu := fu) (t := t) (v := v) (σ := σ1) hw1 kv (by rw [hgb]; exact h4) h7 (by omega) (by omega) (fun k hk => by rw [iv, iv]; exact e4 k hk) ⟨by omega, by omega⟩ hf
      rw [z1, Option.bind_some]
      have ks2 : gk σ2 (gx σ) = 6 := z2.gk hw1 ks (by decide)
      have hb2 : gb σ2 ≤ gx σ := by rw [z2.2.1, hgb]; exact hw.2
      rw [ckT_ok ks2, ckW_ok hb2, nx_eq, gr_gpr_eq, ckR_ok]
      have kw : gk (gpr σ2 (gx σ) 0 (some w)) w = 101 := z4
      have hlen : gn σ2 w = t.length ∨ (gn σ2 w = 2 * t.length ∧ 0 < t.length) := by
        rcases z7 with ⟨d1, -⟩ | ⟨d1, -, k, d2, -⟩
        · exact Or.inl d1
        · exact Or.inr ⟨d1, by omega⟩
      rw [x_coder_ok kw (m := gn σ2 w) rfl (by omega) hlen, Option.bind_some, ckW_ok (show gb (gpr σ2 (gx σ) 0 (some w)) ≤ gx σ from hb2), ckN_b (by split <;> rfl), nx_eq, Option.bind_some, Option.bind_some]
      have hwn : w ≠ gx σ := by omega
      refine ⟨_, rfl, mk σ2 w (if gn σ2 w = t.length then 0 else 1) (z2.mo (fun _ _ q => q.elim)) z3 z4 z5 z6 ?_ _ (fun _ => rfl) (fun _ => rfl) (fun j => gi_gpi_ne (Or.inl hwn)) gi_gpi_eq gr_gpr_eq ((Fr.pr (W := fun a => a = gx σ) rfl).tr (Fr.pi (W := fun a => a = gx σ) rfl) (fun _ _ q => q) (fun _ _ q => q)) rfl rfl⟩
      rcases z7 with ⟨d1, d2⟩ | ⟨d1, d2, k, d3, d4⟩
      · exact Or.inl ⟨if_pos d1, d1, d2⟩
      · exact Or.inr ⟨if_neg (by omega), d1, d2, k, d3, d4⟩
end Sb3
