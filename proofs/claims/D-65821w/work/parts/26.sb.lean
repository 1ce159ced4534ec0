/-! StringBuilder -/
section Sb
set_option maxRecDepth 100000
theorem ch_snoc {t : List Nat} {c k : Nat} : ch (t ++ [c]) k = if k = t.length then c else ch t k := by
  unfold ch
  rw [List.getD_eq_getElem?_getD, List.getD_eq_getElem?_getD]
  by_cases h : k < t.length
  · rw [List.getElem?_append_left h, if_neg (by omega)]
  · rw [List.getElem?_append_right (by omega)]
    by_cases e : k = t.length
    · subst e; simp
    · rw [if_neg e, List.getElem?_eq_none (show [c].length ≤ k - t.length by simp; omega), List.getElem?_eq_none (show t.length ≤ k by omega)]
theorem len_snoc {t : List Nat} {c : Nat} : (t ++ [c]).length = t.length + 1 := by simp
/-- a builder b over the array v that reads as t; ml: whether it may have lost wide characters -/
def bS (t : List Nat) (b v : Nat) (σ : GS) : Prop := gk σ b = 5 ∧ gr σ b 0 = some v ∧ gk σ v = 101 ∧ gb σ ≤ v ∧ gi σ b 3 = nI t.length ∧ t.length ≤ 1300 ∧ (∀ k, ch t k < 65536) ∧
  ((gi σ b 1 = 0 ∧ t.length ≤ gn σ v ∧ gn σ v ≤ 2640 ∧ ∀ k, k < t.length → ch t k < 256 ∧ gi σ v k = sb (ch t k)) ∨
   (gi σ b 1 = 1 ∧ (∃ q, gn σ v = 2 * q ∧ t.length ≤ q ∧ q ≤ 2640) ∧ (∀ k, k < t.length → gi σ v (2 * k) = sb (ch t k % 256) ∧ gi σ v (2 * k + 1) = sb (ch t k / 256)) ∧ (gi σ b 2 ≠ 0 ∨ ∃ k, k < t.length ∧ 256 ≤ ch t k)))
theorem bS.ne {t : List Nat} {b v : Nat} {σ : GS} (h : bS t b v σ) : b ≠ v := fun e => by
  have h1 := h.1
  have h2 := h.2.2.1
  rw [e, h2] at h1
  exact absurd h1 (by decide)
/-- setLength(0) -/
theorem x_setLength_ok {t : List Nat} {b v : Nat} {σ : GS} (h : bS t b v σ) : ∃ σ', x_J1_setLength σ b (0 : Int32) = some σ' ∧ bS [] b v σ' ∧ Fr (fun a => a = b) σ σ' ∧ gc σ' = gc σ ∧ gs σ' = gs σ ∧ gn σ' v = gn σ v := by
  have hne := h.ne
  obtain ⟨h1, h2, h3, h4, h5, h6, h7, h8⟩ := h
  have hcap : ∃ y : Nat, y < 10000 ∧ (nI (gn σ v)) >>> ((gi σ b 1) &&& 31) = nI y := by
    rcases h8 with ⟨e1, e2, e3, -⟩ | ⟨e1, ⟨q, e2, -, e3⟩, -⟩
    · exact ⟨gn σ v, by omega, by rw [e1, sc_shr0 (by omega)]⟩
    · exact ⟨q, by omega, by rw [e1, e2, pk_shrN (by omega) _ 1 (by decide)]; congr 1; omega⟩
  obtain ⟨y, hy, ey⟩ := hcap
  have e0 : x_J0_ensureCapacityInternal σ b 0 = some σ := by
    unfold x_J0_ensureCapacityInternal x_J0_ensureCapacityInternal_0
    rw [ckT_ok h1, h2, ckK_ok h3, nx_eq, ey, if_pos]
    simp only [Int32.le_iff_toInt_le]
    have := pk_sub_toInt (a := 0) (b := y) (by omega) (by omega)
    show ((nI 0) - nI y).toInt ≤ (0 : Int)
    omega
  have fin : ∀ σ1 : GS, gk σ1 b = 5 → x_J0_setLength_76 σ1 b 0 = some (gpi σ1 b 3 0) := by
    intro σ1 hk
    unfold x_J0_setLength_76
    rw [ckT_ok hk, nx_eq]
  have bnil : ∀ σ1 : GS, (∀ a, gk σ1 a = gk σ a) → (∀ a, gn σ1 a = gn σ a) → gb σ1 = gb σ → gr σ1 b 0 = some v → gi σ1 b 1 = gi σ b 1 → (gi σ b 1 = 1 → gi σ1 b 2 ≠ 0) → bS [] b v (gpi σ1 b 3 0) := by
    intro σ1 k1 k2 k3 k4 k5 k6
    refine ⟨(k1 b).trans h1, k4, (k1 v).trans h3, by show gb σ1 ≤ v; rw [k3]; exact h4, ?_, Nat.zero_le _, fun k => by unfold ch; simp, ?_⟩
    · rw [gi_gpi_eq]; rfl
    · rcases h8 with ⟨e1, e2, e3, -⟩ | ⟨e1, ⟨q, e2, e4, e3⟩, -⟩
      · refine Or.inl ⟨?_, Nat.zero_le _, by show gn σ1 v ≤ _; rw [k2]; exact e3, fun k hk => absurd hk (by simp)⟩
        rw [gi_gpi_ne (Or.inr (by decide)), k5]; exact e1
      · refine Or.inr ⟨?_, ⟨q, by show gn σ1 v = _; rw [k2]; exact e2, Nat.zero_le _, e3⟩, fun k hk => absurd hk (by simp), Or.inl ?_⟩
        · rw [gi_gpi_ne (Or.inr (by decide)), k5]; exact e1
        · rw [gi_gpi_ne (Or.inr (by decide))]; exact k6 e1
  unfold x_J1_setLength x_J1_setLength_0 x_J0_setLength x_J0_setLength_0
  rw [ckT_ok h1, if_pos (by decide), ckT_ok h1, e0, Option.bind_some, ckT_ok h1, h5, if_pos (show (0 : Int32) ≤ nI t.length from nI_pos' (by omega))]
  by_cases hl : t.length = 0
  · rw [if_pos (show nI t.length ≤ (0 : Int32) by rw [hl]; decide), fin σ h1, Option.bind_some]
    refine ⟨_, rfl, bnil σ (fun _ => rfl) (fun _ => rfl) rfl h2 rfl (fun e => ?_), Fr.pi rfl, rfl, rfl, rfl⟩
    rcases h8 with ⟨e1, -⟩ | ⟨-, -, -, e4 | ⟨k, k1, -⟩⟩
    · rw [e1] at e; exact absurd e (by decide)
    · exact e4
    · omega
  · rw [if_neg (show ¬ nI t.length ≤ (0 : Int32) from nI_ge (a := 0) (by omega) (by omega)), nx_eq, fin (gpi σ b 2 1) h1, Option.bind_some]
    refine ⟨_, rfl, bnil (gpi σ b 2 1) (fun _ => rfl) (fun _ => rfl) rfl h2 (gi_gpi_ne (Or.inr (by decide))) (fun _ => ?_), ?_, rfl, rfl, rfl⟩
    · rw [gi_gpi_eq]; decide
    · exact (Fr.pi (W := fun a => a = b) rfl).tr (Fr.pi (W := fun a => a = b) rfl) (fun _ _ q => q) (fun _ _ q => q)
/-- a larger array: the old bytes in front -/
theorem x_copyOf_ok {σ : GS} {v m n : Nat} (hw : WF σ) (h1 : gk σ v = 101) (hb : gb σ ≤ v) (h2 : gn σ v = m) (hmn : m < n) (hn : n ≤ 100000) (hroom : 1 ≤ gc σ ∧ n ≤ gs σ) : ∃ σ', x_J13_copyOf σ v (nI n) = some (some (gx σ), σ') ∧ Fr (fun _ => False) σ σ' ∧ gc σ' = gc σ - 1 ∧ gs σ' = gs σ - n ∧ gx σ' = gx σ + 1 ∧ gk σ' (gx σ) = 101 ∧ gn σ' (gx σ) = n ∧ ∀ j, j < m → gi σ' (gx σ) j = gi σ v j := by
  have lv : v < gx σ := hw.lt (by rw [h1]; decide)
  unfold x_J13_copyOf x_J13_copyOf_0
  rw [ckT_ok h1, h2, if_neg (fun e => by rw [nI_eq (by omega) (by omega)] at e; omega), ckL_ok (by omega), nI_clamp (by omega), ckC_ok hroom, nx_eq, nx_eq]
  have k1 : gk (gnew σ 101 n n) v = 101 := by rw [gk_gnew, if_neg (by omega)]; exact h1
  have n1 : gn (gnew σ 101 n n) v = m := by rw [gn_gnew, if_neg (by omega)]; exact h2
  have n2 : gn (gnew σ 101 n n) (gx σ) = n := by rw [gn_gnew, if_pos rfl]
  rw [ckT_ok k1, n1, if_neg (nI_nlt (by omega) (by omega))]
  have hy : (0 ≤ (0 : Int32) ∧ 0 ≤ (0 : Int32) ∧ 0 ≤ nI m) ∧ ((0 : Int32).toNatClampNeg + (nI m).toNatClampNeg ≤ gn (gnew σ 101 n n) v ∧ (0 : Int32).toNatClampNeg + (nI m).toNatClampNeg ≤ gn (gnew σ 101 n n) (gx σ)) ∧ gb (gnew σ 101 n n) ≤ v ∧ gb (gnew σ 101 n n) ≤ gx σ := by
    rw [nI_clamp (by omega), n1, n2]
    exact ⟨⟨by decide, by decide, nI_pos' (by omega)⟩, ⟨by show 0 + m ≤ m; omega, by show 0 + m ≤ n; omega⟩, hb, hw.2⟩
  rw [ckY, if_pos hy, nx_eq, nI_clamp (by omega)]
  refine ⟨_, rfl, ?_, rfl, rfl, rfl, ?_, n2, fun j hj => ?_⟩
  · have f1 : Fr (fun a => a = gx σ) (gnew σ 101 n n) (gcpy (gnew σ 101 n n) v (gx σ) (0 : Int32).toNatClampNeg (0 : Int32).toNatClampNeg m) := Fr.cpy rfl
    exact (Fr.new (W := fun _ => False)).tr f1 (fun _ _ q => q) (fun a ha q => by have q : a = gx σ := q; omega)
  · show gk (gnew σ 101 n n) (gx σ) = 101
    rw [gk_gnew, if_pos rfl]
  · show (if gx σ = gx σ then va_cpy (gi (gnew σ 101 n n) v) (gi (gnew σ 101 n n) (gx σ)) 0 0 m j else _) = _
    rw [if_pos rfl, pk_cpy_in (by omega) (by omega), gi_gnew, if_neg (by omega)]
    congr 1
    omega
/-- room for one more character -/
theorem x_ensure_ok {t : List Nat} {b v : Nat} {σ : GS} (hw : WF σ) (h : bS t b v σ) (hl : t.length + 1 ≤ 1300) (hroom : 1 ≤ gc σ ∧ 10560 ≤ gs σ) : ∃ σ' v', x_J0_ensureCapacityInternal σ b (nI (t.length + 1)) = some σ' ∧ bS t b v' σ' ∧ (v' = v ∨ v' = gx σ) ∧ Fr (fun a => a = b) σ σ' ∧ gc σ ≤ gc σ' + 1 ∧ gs σ + 2 * gn σ v ≤ gs σ' + 2 * gn σ' v' ∧ gi σ' b 1 = gi σ b 1 ∧ (gi σ b 1 = 0 → t.length + 1 ≤ gn σ' v') ∧ (gi σ b 1 = 1 → 2 * (t.length + 1) ≤ gn σ' v') := by
  have hne := h.ne
  have hbS := h
  obtain ⟨h1, h2, h3, h4, h5, h6, h7, h8⟩ := h
  unfold x_J0_ensureCapacityInternal x_J0_ensureCapacityInternal_0
  rw [ckT_ok h1, h2, ckK_ok h3, nx_eq]
  have lb : b < gx σ := hw.lt (by rw [h1]; decide)
  have lv : v < gx σ := hw.lt (by rw [h3]; decide)
  -- the capacity y, the new one
  have hcap : ∃ y n cd : Nat, (nI (gn σ v)) >>> ((gi σ b 1) &&& 31) = nI y ∧ y ≤ 2640 ∧ t.length ≤ y ∧ (t.length + 1 ≤ y → (gi σ b 1 = 0 → t.length + 1 ≤ gn σ v) ∧ (gi σ b 1 = 1 → 2 * (t.length + 1) ≤ gn σ v)) ∧
      (y = t.length → (x_J0_newCapacity σ b (nI (t.length + 1)) = some (nI cd) ∧ nI cd <<< ((gi σ b 1) &&& 31) = nI n) ∧ gn σ v < n ∧ n ≤ 5280 ∧ 2 * gn σ v ≤ n ∧ (gi σ b 1 = 0 → t.length + 1 ≤ n ∧ n ≤ 2640) ∧ (gi σ b 1 = 1 → ∃ q, n = 2 * q ∧ t.length + 1 ≤ q ∧ q ≤ 2640)) := by
    rcases h8 with ⟨e1, e2, e3, -⟩ | ⟨e1, ⟨q, e2, e4, e3⟩, -⟩
    · refine ⟨gn σ v, 2 * gn σ v + 2, 2 * gn σ v + 2, by rw [e1, sc_shr0 (by omega)], e3, e2, fun q => ⟨fun _ => q, fun z => ?_⟩, fun hy => ⟨⟨?_, ?_⟩, by omega, by omega, by omega, fun _ => by omega, fun z => ?_⟩⟩
      · rw [e1] at z; exact absurd z (by decide)
      · unfold x_J0_newCapacity x_J0_newCapacity_0 x_J12_newLength x_J12_newLength_0
        rw [ckT_ok h1, h2, ckK_ok h3, nx_eq, nx_eq, nx_eq, e1, nx_eq, pk_shlN _ 0 (by decide) (by omega), show (2 : Int32) <<< ((0 : Int32) &&& 31) = nI 2 by decide, nI_add, pk_sub (by omega), if_pos (nI_lt (by omega) (by omega)), nI_add]
        rw [if_neg (show ¬ nI (gn σ v + (gn σ v + 2)) ≤ (0 : Int32) from nI_ge (a := 0) (by omega) (by omega)), if_neg (show ¬ (2147483639 : Int32) < _ from nI_nlt (a := 2147483639) (by omega) (by decide)), Option.bind_some, if_neg (fun z => by
          have z : nI (gn σ v + (gn σ v + 2)) = nI 2147483647 := z
          rw [nI_eq (by omega) (by decide)] at z
          omega), sc_shr0 (by omega)]
        congr 2
        omega
      · rw [e1, pk_shlN _ 0 (by decide) (by omega)]
        congr 1
        omega
      · rw [e1] at z; exact absurd z (by decide)
    · refine ⟨q, 4 * q + 4, 2 * q + 2, by rw [e1, e2, pk_shrN (by omega) _ 1 (by decide)]; congr 1; omega, e3, e4, fun z => ⟨fun z2 => ?_, fun _ => by omega⟩, fun hy => ⟨⟨?_, ?_⟩, by omega, by omega, by omega, fun z => ?_, fun _ => ⟨2 * q + 2, by omega, by omega, by omega⟩⟩⟩
      · rw [e1] at z2; exact absurd z2 (by decide)
      · unfold x_J0_newCapacity x_J0_newCapacity_0 x_J12_newLength x_J12_newLength_0
        rw [ckT_ok h1, h2, ckK_ok h3, nx_eq, nx_eq, nx_eq, e1, e2, nx_eq, pk_shlN _ 1 (by decide) (by omega), show (2 : Int32) <<< ((1 : Int32) &&& 31) = nI 4 by decide, nI_add, pk_sub (by omega), if_pos (nI_lt (by omega) (by omega)), nI_add]
        rw [if_neg (show ¬ nI (2 * q + (2 * q + 4)) ≤ (0 : Int32) from nI_ge (a := 0) (by omega) (by omega)), if_neg (show ¬ (2147483639 : Int32) < _ from nI_nlt (a := 2147483639) (by omega) (by decide)), Option.bind_some, if_neg (fun z => by
          have z : nI (2 * q + (2 * q + 4)) = nI 2147483647 := z
          rw [nI_eq (by omega) (by decide)] at z
          omega), pk_shrN (by omega) _ 1 (by decide)]
        congr 2
        omega
      · rw [e1, pk_shlN _ 1 (by decide) (by omega)]
        congr 1
        omega
      · rw [e1] at z; exact absurd z (by decide)
  obtain ⟨y, n, cd, ey, hy1, hy2, hy3, hy4⟩ := hcap
  rw [ey]
  by_cases hc : t.length + 1 ≤ y
  · rw [if_pos (by
      simp only [Int32.le_iff_toInt_le]
      have := pk_sub_toInt (a := t.length + 1) (b := y) (by omega) (by omega)
      show (nI (t.length + 1) - nI y).toInt ≤ (0 : Int)
      omega)]
    exact ⟨σ, v, rfl, hbS, Or.inl rfl, Fr.rf, by omega, by omega, rfl, (hy3 hc).1, (hy3 hc).2⟩
  · obtain ⟨⟨z1, z2⟩, z3, z4, z5, z6, z7⟩ := hy4 (by omega)
    rw [if_neg (by
      simp only [Int32.le_iff_toInt_le]
      have := pk_sub_toInt (a := t.length + 1) (b := y) (by omega) (by omega)
      show ¬ (nI (t.length + 1) - nI y).toInt ≤ (0 : Int)
      omega), z1, Option.bind_some, z2]
    obtain ⟨σ1, c1, c2, c3, c4, c5, c6, c7, c8⟩ := x_copyOf_ok hw h3 h4 rfl z3 (by omega) ⟨hroom.1, by omega⟩
    rw [c1, Option.bind_some]
    have kb : gk σ1 b = 5 := c2.gk hw h1 (by decide)
    have ib : ∀ j, gi σ1 b j = gi σ b j := fun j => (c2.2.2.2.2.1 b lb (fun q => q) j).1
    rw [ckT_ok kb, nx_eq]
    have nb : gn (gpr σ1 b 0 (some (gx σ))) (gx σ) = n := c7
    refine ⟨_, gx σ, rfl, ?_, Or.inr rfl, ?_, ?_, ?_, ib 1, fun z => ?_, fun z => ?_⟩
    · refine ⟨kb, gr_gpr_eq, c6, by show gb σ1 ≤ _; rw [c2.2.1]; exact hw.2, by show gi σ1 b 3 = _; rw [ib]; exact h5, h6, h7, ?_⟩
      rcases h8 with ⟨e1, e2, e3, e4⟩ | ⟨e1, ⟨q, e2, e5, e3⟩, e4, e6⟩
      · refine Or.inl ⟨by show gi σ1 b 1 = 0; rw [ib]; exact e1, by rw [nb]; have := z6 e1; omega, by rw [nb]; have := z6 e1; omega, fun k hk => ⟨(e4 k hk).1, ?_⟩⟩
        show gi σ1 (gx σ) k = _
        rw [c8 k (by omega)]
        exact (e4 k hk).2
      · obtain ⟨q2, w1, w2, w3⟩ := z7 e1
        refine Or.inr ⟨by show gi σ1 b 1 = 1; rw [ib]; exact e1, ⟨q2, by rw [nb]; exact w1, by omega, w3⟩, fun k hk => ⟨?_, ?_⟩, ?_⟩
        · show gi σ1 (gx σ) (2 * k) = _
          rw [c8 (2 * k) (by omega)]
          exact (e4 k hk).1
        · show gi σ1 (gx σ) (2 * k + 1) = _
          rw [c8 (2 * k + 1) (by omega)]
          exact (e4 k hk).2
        · rcases e6 with e6 | e6
          · left
            show gi σ1 b 2 ≠ 0
            rw [ib]; exact e6
          · exact Or.inr e6
    · exact c2.tr (Fr.pr (W := fun a => a = b) rfl) (fun _ _ q => q.elim) (fun _ _ q => q)
    · show gc σ ≤ gc σ1 + 1
      omega
    · rw [nb]
      show gs σ + 2 * gn σ v ≤ gs σ1 + 2 * n
      omega
    · rw [nb]; exact (z6 z).1
    · rw [nb]
      obtain ⟨q2, w1, w2, w3⟩ := z7 z
      omega
end Sb
