/-! StringBuilder: append -/
section Sb2
set_option maxRecDepth 100000
theorem sb_mod (c : Nat) : (nI c).toInt8.toInt32 = sb (c % 256) := by
  unfold sb
  congr 1
  apply Int8.toBitVec_inj.mp
  show (BitVec.ofNat 32 c).signExtend 8 = (BitVec.ofNat 32 (c % 256)).signExtend 8
  rw [BitVec.signExtend_eq_setWidth_of_le _ (by decide), BitVec.signExtend_eq_setWidth_of_le _ (by decide)]
  apply BitVec.eq_of_toNat_eq
  simp
theorem sb_idem (n : Nat) : (sb n).toInt8.toInt32 = sb n := by
  unfold sb
  simp
theorem x_putChar_ok {σ : GS} {w k c n : Nat} (h1 : gk σ w = 101) (hb : gb σ ≤ w) (h2 : gn σ w = n) (hn : n < 2 ^ 31) (hk : 2 * k + 1 < n) (hc : c < 65536) : x_J3_putChar σ w (nI k) (nI c) = some (gpi (gpi σ w (2 * k) (sb (c % 256))) w (2 * k + 1) (sb (c / 256))) := by
  unfold x_J3_putChar x_J3_putChar_0 x_J3_putChar_28
  rw [if_neg (by decide), nx_eq, nx_eq, pk_shlN _ 1 (by decide) (by omega), show k * 2 ^ 1 = 2 * k by omega, nI_1, ckT_ok h1, ckW_ok hb, h2, ckIn_n (by omega) hn, nx_eq, ckW_ok (show gb (gpi σ w _ _) ≤ w from hb)]
  show ckIn (nI (2 * k + 1)) (gn σ w) _ = _
  rw [h2, ckIn_n hk hn, nx_eq, nI_clamp (by omega), nI_clamp (by omega), pk_shrN (by omega) _ 0 (by decide), pk_shrN (by omega) _ 8 (by decide), Nat.pow_zero, Nat.div_one, sb_mod, sb_mod, sb_idem, sb_idem]
  congr 3
  omega
/-- Latin-1 bytes made wide, from place i on -/
theorem x_infl_loop {fu : Nat} {t : List Nat} {v w n : Nat} (hvw : v ≠ w) : ∀ (d i f : Nat) (σ : GS), i + d = t.length → d < f → gk σ v = 101 → gk σ w = 101 → gb σ ≤ w → t.length ≤ gn σ v → gn σ v < 2 ^ 31 → gn σ w = n → n < 2 ^ 31 → 2 * t.length ≤ n → (∀ k, k < t.length → ch t k < 256 ∧ gi σ v k = sb (ch t k)) → (∀ k, k < i → gi σ w (2 * k) = sb (ch t k % 256) ∧ gi σ w (2 * k + 1) = sb (ch t k / 256)) →
    ∃ σ', x_J3_inflate_10L fu f σ v (nI i) w (nI i) (nI t.length) (nI i) = some σ' ∧ Fr (fun a => a = w) σ σ' ∧ gc σ' = gc σ ∧ gs σ' = gs σ ∧ gx σ' = gx σ ∧ (∀ k, k < t.length → gi σ' w (2 * k) = sb (ch t k % 256) ∧ gi σ' w (2 * k + 1) = sb (ch t k / 256)) := by
  intro d
  induction d with
  | zero =>
    intro i f σ hi hf h1 h2 h3 h4 h4b h5 h6 h7 h8 h9
    obtain ⟨f, rfl⟩ : ∃ z9, f = z9 + 1 := ⟨f - 1, by omega⟩
    show ∃ σ', x_J3_inflate_10 fu _ σ v (nI i) w (nI i) (nI t.length) (nI i) = some σ' ∧ _
    unfold x_J3_inflate_10
    rw [if_pos (nI_le (by omega) (by omega))]
    exact ⟨σ, rfl, Fr.rf, rfl, rfl, rfl, fun k hk => h9 k (by omega)⟩
  | succ d ih =>
    intro i f σ hi hf h1 h2 h3 h4 h4b h5 h6 h7 h8 h9
    obtain ⟨f, rfl⟩ : ∃ z9, f = z9 + 1 := ⟨f - 1, by omega⟩
    show ∃ σ', x_J3_inflate_10 fu (x_J3_inflate_10L fu f) σ v (nI i) w (nI i) (nI t.length) (nI i) = some σ' ∧ _
    unfold x_J3_inflate_10
    have x := h8 i (by omega)
    rw [if_neg (nI_ge (by omega) (by omega)), nx_eq, nx_eq, ckT_ok h1, ckIn_n (by omega) h4b, nI_clamp (by omega), x.2, sb_and _ x.1, x_putChar_ok h2 h3 h5 h6 (by omega) (by omega), Option.bind_some, nx_eq, nI_1]
    obtain ⟨σ', y1, y2, y3, y4, y5, y6⟩ := ih (i + 1) f (gpi (gpi σ w (2 * i) (sb (ch t i % 256))) w (2 * i + 1) (sb (ch t i / 256))) (by omega) (by omega) h1 h2 h3 h4 h4b h5 h6 h7 (fun k hk => ⟨(h8 k hk).1, by
      rw [gi_gpi_ne (Or.inl hvw), gi_gpi_ne (Or.inl hvw)]
      exact (h8 k hk).2⟩) (fun k hk => by
      by_cases e : k = i
      · subst e
        rw [gi_gpi_ne (Or.inr (by omega)), gi_gpi_eq, gi_gpi_eq]
        exact ⟨rfl, rfl⟩
      · rw [gi_gpi_ne (Or.inr (by omega)), gi_gpi_ne (Or.inr (by omega)), gi_gpi_ne (Or.inr (by omega)), gi_gpi_ne (Or.inr (by omega))]
        exact h9 k (by omega))
    refine ⟨σ', y1, ?_, y3, y4, y5, y6⟩
    exact ((Fr.pi (W := fun a => a = w) rfl).tr (Fr.pi (W := fun a => a = w) rfl) (fun _ _ q => q) (fun _ _ q => q)).tr y2 (fun _ _ q => q) (fun _ _ q => q)
/-- inflate() of a Latin-1 builder -/
theorem x_inflate_ok {fu : Nat} {t : List Nat} {b v : Nat} {σ : GS} (hw : WF σ) (h : bS t b v σ) (h0 : gi σ b 1 = 0) (hroom : 1 ≤ gc σ ∧ 10560 ≤ gs σ) (hf : 65536 < fu) : ∃ σ', x_J0_inflate fu σ b = some σ' ∧ gk σ' b = 5 ∧ gr σ' b 0 = some (gx σ) ∧ gk σ' (gx σ) = 101 ∧ gb σ' ≤ gx σ ∧ gi σ' b 3 = nI t.length ∧ gi σ' b 1 = 1 ∧ gi σ' b 2 = gi σ b 2 ∧ gn σ' (gx σ) = 2 * gn σ v ∧ (∀ k, k < t.length → gi σ' (gx σ) (2 * k) = sb (ch t k % 256) ∧ gi σ' (gx σ) (2 * k + 1) = sb (ch t k / 256)) ∧ Fr (fun a => a = b) σ σ' ∧ gc σ ≤ gc σ' + 1 ∧ gs σ = gs σ' + 2 * gn σ v := by
  have hne := h.ne
  obtain ⟨h1, h2, h3, h4, h5, h6, h7, h8⟩ := h
  have lb : b < gx σ := hw.lt (by rw [h1]; decide)
  have lv : v < gx σ := hw.lt (by rw [h3]; decide)
  rcases h8 with ⟨e1, e2, e3, e4⟩ | ⟨e1, -⟩
  · unfold x_J0_inflate x_J0_inflate_0 x_J0_isLatin1 x_J0_isLatin1_0 x_J3_newBytesFor x_J3_newBytesFor_0 x_J3_newBytesLength x_J3_newBytesLength_0
    rw [ckT_ok h1, if_neg (by decide), ckT_ok h1, if_pos h0, Option.bind_some, if_neg (by decide), h2, ckK_ok h3, if_pos (show (0 : Int32) ≤ nI (gn σ v) from nI_pos' (by omega)), if_pos (show nI (gn σ v) < (1073741823 : Int32) from nI_lt (b := 1073741823) (by omega) (by decide)), Option.bind_some, pk_shlN _ 1 (by decide) (by omega), show gn σ v * 2 ^ 1 = 2 * gn σ v by omega, ckL_ok (by omega), nI_clamp (by omega), ckC_ok ⟨hroom.1, by omega⟩, nx_eq, nx_eq, Option.bind_some]
    generalize hs1 : gnew σ 101 (2 * gn σ v) (2 * gn σ v) = σ1
    have fr1 : Fr (fun _ => False) σ σ1 := by rw [← hs1]; exact Fr.new
    have kb : gk σ1 b = 5 := fr1.gk hw h1 (by decide)
    have kv : gk σ1 v = 101 := fr1.gk hw h3 (by decide)
    have kw : gk σ1 (gx σ) = 101 := by rw [← hs1, gk_gnew, if_pos rfl]
    have nw : gn σ1 (gx σ) = 2 * gn σ v := by rw [← hs1, gn_gnew, if_pos rfl]
    have nv : gn σ1 v = gn σ v := (fr1.2.2.2.1 v lv).2
    have ib : ∀ j, gi σ1 b j = gi σ b j ∧ gl σ1 b j = gl σ b j ∧ gr σ1 b j = gr σ b j := fun j => fr1.2.2.2.2.1 b lb (fun q => q) j
    have iv : ∀ j, gi σ1 v j = gi σ v j := fun j => (fr1.2.2.2.2.1 v lv (fun q => q) j).1
    rw [ckT_ok kb, (ib 0).2.2, h2, ckR_ok, ckR_ok, (ib 3).1, h5]
    unfold x_J4_inflate x_J4_inflate_0 x_J3_inflate x_J3_inflate_0 x_J3_checkBoundsOffCount x_J3_checkBoundsOffCount_0 x_J3_length x_J3_length_0 x_J2_checkBoundsOffCount x_J2_checkBoundsOffCount_0 x_J5_checkFromIndexSize x_J5_checkFromIndexSize_0
    rw [ckT_ok kw, nw, Option.bind_some, pk_shrN (by omega) _ 1 (by decide), show 2 * gn σ v / 2 ^ 1 = gn σ v by omega]
    have hor : ¬ ((nI (gn σ v) ||| (0 : Int32)) ||| nI t.length) < 0 := by
      have e9 : (nI (gn σ v) ||| (0 : Int32)) ||| nI t.length = nI (gn σ v ||| t.length) := by
        apply Int32.toBitVec_inj.mp
        rw [Int32.toBitVec_or, Int32.toBitVec_or]
        apply BitVec.eq_of_toNat_eq
        rw [BitVec.toNat_or, BitVec.toNat_or, pk_tn (by omega), pk_tn (by omega), pk_tn (Nat.lt_trans (Nat.or_lt_two_pow (n := 31) (by omega) (by omega)) (by decide))]
        show gn σ v ||| 0 ||| t.length = _
        rw [Nat.or_zero]
      rw [e9]
      exact nI_pos (Nat.or_lt_two_pow (n := 31) (by omega) (by omega))
    rw [if_neg hor, show nI (gn σ v) - (0 : Int32) = nI (gn σ v) from pk_sub (b := 0) (by omega), if_pos (nI_le e2 (by omega)), Option.bind_some, Option.bind_some, Option.bind_some, show (0 : Int32) = nI 0 from rfl]
    obtain ⟨σ2, y1, y2, y3, y4, y5, y6⟩ := x_infl_loop (fu := fu) (t := t) (v := v) (w := gx σ) (n := 2 * gn σ v) (by omega) t.length 0 fu σ1 (by omega) (by omega) kv kw (by rw [fr1.2.1]; exact hw.2) (by omega) (by omega) nw (by omega) (by omega) (fun k hk => ⟨(e4 k hk).1, by rw [iv]; exact (e4 k hk).2⟩) (fun k hk => by omega)
    rw [y1, Option.bind_some, Option.bind_some]
    have hw1 : WF σ1 := fr1.2.2.2.2.2 hw
    have kb2 : gk σ2 b = 5 := y2.gk hw1 kb (by decide)
    have x1 : gx σ1 = gx σ + 1 := by rw [← hs1]; rfl
    rw [ckT_ok kb2, nx_eq, nx_eq]
    have ib2 : ∀ j, gi σ2 b j = gi σ b j := fun j => ((y2.2.2.2.2.1 b (by omega) (show ¬ b = gx σ by omega) j).1).trans (ib j).1
    have fr2 : Fr (fun a => a = b) σ σ2 := fr1.tr y2 (fun _ _ q => q.elim) (fun a ha q => by have q : a = gx σ := q; omega)
    refine ⟨_, rfl, kb2, gr_gpr_eq, y2.gk hw1 kw (by decide), by show gb σ2 ≤ _; rw [fr2.2.1]; exact hw.2, ?_, gi_gpi_eq, ?_, ?_, fun k hk => ?_, ?_, ?_, ?_⟩
    · rw [gi_gpi_ne (Or.inr (by decide))]
      show gi σ2 b 3 = _
      rw [ib2]; exact h5
    · rw [gi_gpi_ne (Or.inr (by decide))]
      show gi σ2 b 2 = _
      exact ib2 2
    · show gn σ2 (gx σ) = _
      rw [(y2.2.2.2.1 (gx σ) (by omega)).2]; exact nw
    · rw [gi_gpi_ne (Or.inl (by omega)), gi_gpi_ne (Or.inl (by omega))]
      exact y6 k hk
    · exact fr2.tr ((Fr.pr (W := fun a => a = b) rfl).tr (Fr.pi (W := fun a => a = b) rfl) (fun _ _ q => q) (fun _ _ q => q)) (fun _ _ q => q) (fun _ _ q => q)
    · show gc σ ≤ gc σ2 + 1
      have : gc σ1 = gc σ - 1 := by rw [← hs1]; rfl
      omega
    · show gs σ = gs σ2 + _
      have : gs σ1 = gs σ - 2 * gn σ v := by rw [← hs1]; rfl
      omega
  · rw [h0] at e1
    exact absurd e1 (by decide)
/-- append(char) -/
theorem x_append_ok {fu : Nat} {t : List Nat} {b v c : Nat} {σ : GS} (hw : WF σ) (h : bS t b v σ) (hc : c < 65536) (hl : t.length + 1 ≤ 1300) (hroom : 2 ≤ gc σ ∧ 21120 ≤ gs σ) (hf : 65536 < fu) : ∃ σ' v', x_J1_append_3 fu σ b (nI c) = some (some b, σ') ∧ bS (t ++ [c]) b v' σ' ∧ (v' = v ∨ gx σ ≤ v') ∧ Fr (fun a => a = b ∨ a = v) σ σ' ∧ gc σ ≤ gc σ' + 2 ∧ gs σ + 2 * gn σ v ≤ gs σ' + 2 * gn σ' v' := by
  have hb0 := h
  obtain ⟨σ1, v1, y1, y2, y3, y4, y5, y6, y7, y8, y9⟩ := x_ensure_ok hw h hl ⟨by omega, by omega⟩
  have hw1 : WF σ1 := y4.2.2.2.2.2 hw
  have hne1 := y2.ne
  have hy2 := y2
  have lb : b < gx σ := hw.lt (by rw [hb0.1]; decide)
  obtain ⟨h1, h2, h3, h4, h5, h6, h7, h8⟩ := y2
  have lv1 : v1 < gx σ1 := hw1.lt (by rw [h3]; decide)
  have hcap : gn σ v ≤ 5280 := by
    rcases hb0.2.2.2.2.2.2.2 with ⟨-, -, e3, -⟩ | ⟨-, ⟨q, e2, -, e3⟩, -⟩ <;> omega
  have hcap1 : gn σ1 v1 ≤ 5280 := by
    rcases h8 with ⟨-, -, e3, -⟩ | ⟨-, ⟨q, e2, -, e3⟩, -⟩ <;> omega
  have hch : ∀ k, ch (t ++ [c]) k < 65536 := fun k => by rw [ch_snoc]; split; exact hc; exact h7 k
  have frb : Fr (fun a => a = b ∨ a = v) σ σ1 := y4.mo (fun _ _ q => Or.inl q)
  have hv1 : v1 = v ∨ gx σ ≤ v1 := y3.imp id (fun e => by omega)
  unfold x_J1_append_3 x_J1_append_3_0 x_J0_append_3 x_J0_append_3_0
  rw [ckT_ok hb0.1, ckT_ok hb0.1, hb0.2.2.2.2.1, nI_1, y1, Option.bind_some, ckT_ok h1, h5, nI_1]
  have wide : ∀ (σ2 : GS) (v2 : Nat), WF σ2 → gk σ2 b = 5 → gr σ2 b 0 = some v2 → gk σ2 v2 = 101 → gb σ2 ≤ v2 → gi σ2 b 3 = nI t.length → gi σ2 b 1 = 1 → (∃ q, gn σ2 v2 = 2 * q ∧ t.length + 1 ≤ q ∧ q ≤ 2640) → (∀ k, k < t.length → gi σ2 v2 (2 * k) = sb (ch t k % 256) ∧ gi σ2 v2 (2 * k + 1) = sb (ch t k / 256)) → ((gi σ2 b 2 ≠ 0 ∨ ∃ k, k < t.length ∧ 256 ≤ ch t k) ∨ 256 ≤ c) →
      ∃ σ', x_J0_append_3_56 fu σ2 b (nI c) = some (some b, σ') ∧ bS (t ++ [c]) b v2 σ' ∧ Fr (fun a => a = b ∨ a = v2) σ2 σ' ∧ gc σ' = gc σ2 ∧ gs σ' = gs σ2 ∧ gn σ' v2 = gn σ2 v2 := by
    intro σ2 v2 hw2 k1 k2 k3 k4 k5 k6 k7 k8 k9
    obtain ⟨q, q1, q2, q3⟩ := k7
    have hbv : b ≠ v2 := fun e => by rw [e, k3] at k1; exact absurd k1 (by decide)
    unfold x_J0_append_3_56 x_J3_putCharSB x_J3_putCharSB_0 x_J3_checkIndex x_J3_checkIndex_0 x_J3_length x_J3_length_0 x_J2_checkIndex x_J2_checkIndex_0 x_J5_checkIndex x_J5_checkIndex_0
    rw [ckT_ok k1, nx_eq, k2, ckR_ok, k5, nI_1]
    generalize hs3 : gpi σ2 b 3 (nI (t.length + 1)) = σ3
    have e1 : gk σ3 v2 = 101 := by rw [← hs3]; exact k3
    have e2 : gn σ3 v2 = 2 * q := by rw [← hs3]; exact q1
    have e3 : gb σ3 ≤ v2 := by rw [← hs3]; exact k4
    rw [ckT_ok e1, e2, Option.bind_some, pk_shrN (by omega) _ 1 (by decide), if_neg (nI_pos (by omega)), if_pos (nI_lt (by omega) (by omega)), Option.bind_some, Option.bind_some, Option.bind_some, x_putChar_ok e1 e3 e2 (by omega) (by omega) hc, Option.bind_some, Option.bind_some]
    refine ⟨_, rfl, ⟨by rw [← hs3]; exact k1, by rw [← hs3]; exact k2, e1, e3, ?_, by rw [len_snoc]; omega, hch, Or.inr ⟨?_, ⟨q, e2, by rw [len_snoc]; omega, q3⟩, fun k hk => ?_, ?_⟩⟩, ?_, by rw [← hs3]; rfl, by rw [← hs3]; rfl, by rw [← hs3]; rfl⟩
    · rw [gi_gpi_ne (Or.inl hbv), gi_gpi_ne (Or.inl hbv), ← hs3, gi_gpi_eq, len_snoc]
    · rw [gi_gpi_ne (Or.inl hbv), gi_gpi_ne (Or.inl hbv), ← hs3, gi_gpi_ne (Or.inr (by decide))]
      exact k6
    · rw [len_snoc] at hk
      rw [ch_snoc]
      by_cases e : k = t.length
      · subst e
        rw [if_pos rfl, gi_gpi_ne (Or.inr (by omega)), gi_gpi_eq, gi_gpi_eq]
        exact ⟨rfl, rfl⟩
      · rw [if_neg e, gi_gpi_ne (Or.inr (by omega)), gi_gpi_ne (Or.inr (by omega)), gi_gpi_ne (Or.inr (by omega)), gi_gpi_ne (Or.inr (by omega)), ← hs3, gi_gpi_ne (Or.inl (Ne.symm hbv)), gi_gpi_ne (Or.inl (Ne.symm hbv))]
        exact k8 k (by omega)
    · rcases k9 with (k9 | ⟨k, z1, z2⟩) | k9
      · left
        rw [gi_gpi_ne (Or.inl hbv), gi_gpi_ne (Or.inl hbv), ← hs3, gi_gpi_ne (Or.inr (by decide))]
        exact k9
      · exact Or.inr ⟨k, by rw [len_snoc]; omega, by rw [ch_snoc, if_neg (by omega)]; exact z2⟩
      · exact Or.inr ⟨t.length, by rw [len_snoc]; omega, by rw [ch_snoc, if_pos rfl]; exact k9⟩
    · rw [← hs3]
      exact ((Fr.pi (W := fun a => a = b ∨ a = v2) (Or.inl rfl)).tr (Fr.pi (W := fun a => a = b ∨ a = v2) (Or.inr rfl)) (fun _ _ q => q) (fun _ _ q => q)).tr (Fr.pi (W := fun a => a = b ∨ a = v2) (Or.inr rfl)) (fun _ _ q => q) (fun _ _ q => q)
  rcases h8 with ⟨e1, e2, e3, e4⟩ | ⟨e1, ⟨q, e2, e5, e3⟩, e4, e6⟩
  · -- Latin-1 so far
    have z0 : gi σ b 1 = 0 := by rw [← y7]; exact e1
    unfold x_J0_isLatin1 x_J0_isLatin1_0 x_J4_canEncode x_J4_canEncode_0
    rw [if_neg (by decide), ckT_ok h1, if_pos e1, Option.bind_some, if_neg (by decide)]
    by_cases hc2 : c < 256
    · rw [if_neg (show ¬ (255 : Int32) < nI c from nI_nlt (a := 255) (by omega) (by decide)), Option.bind_some, if_neg (by decide), nx_eq, h2]
      have k1 : gk (gpi σ1 b 3 (nI (t.length + 1))) v1 = 101 := h3
      rw [ckK_ok k1, ckW_ok (show gb (gpi σ1 b 3 (nI (t.length + 1))) ≤ v1 from h4)]
      show ∃ σ' v', (ckIn (nI t.length) (gn σ1 v1) _).bind _ = _ ∧ _
      have := y8 z0
      rw [ckIn_n (by omega) (by omega), nx_eq, nI_clamp (by omega), Option.bind_some]
      refine ⟨_, v1, rfl, ⟨h1, h2, h3, h4, ?_, by rw [len_snoc]; omega, hch, Or.inl ⟨?_, ?_, e3, fun k hk => ?_⟩⟩, hv1, ?_, ?_, ?_⟩
      · rw [gi_gpi_ne (Or.inl hne1), gi_gpi_eq, len_snoc]
      · rw [gi_gpi_ne (Or.inl hne1), gi_gpi_ne (Or.inr (by decide))]; exact e1
      · show (t ++ [c]).length ≤ gn σ1 v1
        rw [len_snoc]; omega
      · rw [len_snoc] at hk
        rw [ch_snoc]
        by_cases e : k = t.length
        · subst e
          rw [if_pos rfl, gi_gpi_eq, sb_mod, sb_idem, Nat.mod_eq_of_lt hc2]
          exact ⟨hc2, rfl⟩
        · rw [if_neg e, gi_gpi_ne (Or.inr e), gi_gpi_ne (Or.inl (Ne.symm hne1))]
          exact e4 k (by omega)
      · refine (frb.tr (Fr.pi (W := fun a => a = b ∨ a = v1) (Or.inl rfl)) (fun _ _ q => q) (fun a ha q => ?_)).tr (Fr.pi (W := fun a => a = b ∨ a = v1) (Or.inr rfl)) (fun _ _ q => q) (fun a ha q => ?_)
        · rcases q with q | q
          · exact Or.inl q
          · rcases hv1 with e | e
            · exact Or.inr (q.trans e)
            · omega
        · rcases q with q | q
          · exact Or.inl q
          · rcases hv1 with e | e
            · exact Or.inr (q.trans e)
            · omega
      · show gc σ ≤ gc σ1 + 2
        omega
      · show gs σ + 2 * gn σ v ≤ gs σ1 + 2 * gn σ1 v1
        exact y6
    · rw [if_pos (show (255 : Int32) < nI c from nI_lt (a := 255) (by omega) (by omega)), Option.bind_some, if_pos rfl]
      unfold x_J0_append_3_45 x_J0_isLatin1 x_J0_isLatin1_0
      rw [ckT_ok h1, if_neg (by decide), ckT_ok h1, if_pos e1, Option.bind_some, if_neg (by decide)]
      obtain ⟨σ2, w1, w2, w3, w4, w5, w6, w7, w8, w9, w10, w11, w12, w13⟩ := x_inflate_ok (fu := fu) hw1 hy2 e1 ⟨by omega, by omega⟩ hf
      rw [w1, Option.bind_some]
      have := y8 z0
      obtain ⟨σ', x1, x2, x3, x4, x5, x6⟩ := wide σ2 (gx σ1) (w11.2.2.2.2.2 hw1) w2 w3 w4 w5 w6 w7 ⟨gn σ1 v1, w9, by omega, by omega⟩ w10 (Or.inr (by omega))
      rw [x1, Option.bind_some]
      refine ⟨σ', gx σ1, rfl, x2, Or.inr (by have := y4.1; omega), ?_, by omega, by rw [x6, w9]; omega⟩
      refine (frb.tr w11 (fun _ _ q => q) (fun _ _ q => Or.inl q)).tr x3 (fun _ _ q => q) (fun a ha q => ?_)
      rcases q with q | q
      · exact Or.inl q
      · have := y4.1; omega
  · -- wide already
    have z0 : gi σ b 1 = 1 := by rw [← y7]; exact e1
    unfold x_J0_append_3_45 x_J0_isLatin1 x_J0_isLatin1_0 x_J0_isLatin1_17
    rw [if_neg (by decide), ckT_ok h1, if_neg (by rw [e1]; decide), Option.bind_some, if_pos rfl, ckT_ok h1, Option.bind_some, if_pos rfl]
    have := y9 z0
    obtain ⟨σ', x1, x2, x3, x4, x5, x6⟩ := wide σ1 v1 hw1 h1 h2 h3 h4 h5 e1 ⟨q, e2, by omega, e3⟩ e4 (Or.inl e6)
    rw [x1, Option.bind_some]
    refine ⟨σ', v1, rfl, x2, hv1, ?_, by omega, by rw [x6]; omega⟩
    refine frb.tr x3 (fun _ _ q => q) (fun a ha q => ?_)
    rcases q with q | q
    · exact Or.inl q
    · rcases hv1 with e | e
      · exact Or.inr (q.trans e)
      · omega
end Sb2
