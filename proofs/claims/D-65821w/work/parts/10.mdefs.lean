section
set_option maxRecDepth 100000
noncomputable def m_thrown_0 (σ : SM) : Option Int32 :=
  some (σ.1 0)
noncomputable def m_thrown (σ : SM) : Option Int32 := m_thrown_0 σ
noncomputable def m_symbolN_110 (fu : Nat) (k70 : SM → Int32 → Int32 → Int32 → Int32 → Int32 → Option (Int32 × SM)) (σ : SM) (x1 : Int32) (x2 : Int32) (x3 : Int32) (x5 : Int32) (t0 : Int32) : Option (Int32 × SM) :=
  nx (x5 + (1 : Int32)) fun y1 => k70 σ x1 x2 x3 t0 y1
noncomputable def m_symbolN_118 (fu : Nat) (k46 : SM → Int32 → Int32 → Int32 → Option (Int32 × SM)) (σ : SM) (x1 : Int32) (x2 : Int32) (x3 : Int32) (x4 : Int32) : Option (Int32 × SM) :=
  if x4 = 0 then ckIn x3 24000 (nx (σ.2 6 x3.toNatClampNeg) fun y3 => k46 σ x1 x2 y3) else some (x3, σ)
noncomputable def m_symbolN_70 (fu : Nat) (k46 : SM → Int32 → Int32 → Int32 → Option (Int32 × SM)) (k70 : SM → Int32 → Int32 → Int32 → Int32 → Int32 → Option (Int32 × SM)) (σ : SM) (x1 : Int32) (x2 : Int32) (x3 : Int32) (x4 : Int32) (x5 : Int32) : Option (Int32 × SM) :=
  if x1 ≤ x5 then m_symbolN_118 fu k46 σ x1 x2 x3 x4 else if x4 = 0 then m_symbolN_118 fu k46 σ x1 x2 x3 x4 else ckIn x3 24000 (ckIn ((σ.2 4 x3.toNatClampNeg) + x5) 66000 (ckIn x5 66000 (if (σ.2 1 ((σ.2 4 x3.toNatClampNeg) + x5).toNatClampNeg) = (σ.2 2 x5.toNatClampNeg) then m_symbolN_110 fu k70 σ x1 x2 x3 x5 (1 : Int32) else m_symbolN_110 fu k70 σ x1 x2 x3 x5 (0 : Int32))))
noncomputable def m_symbolN_70L (fu : Nat) (k46 : SM → Int32 → Int32 → Int32 → Option (Int32 × SM)) (n : Nat) : SM → Int32 → Int32 → Int32 → Int32 → Int32 → Option (Int32 × SM) := lpF (F := SM → Int32 → Int32 → Int32 → Int32 → Int32 → Option (Int32 × SM)) (fun _ _ _ _ _ _ => none) (fun k => m_symbolN_70 fu k46 k) n
noncomputable def m_symbolN_65 (fu : Nat) (k46 : SM → Int32 → Int32 → Int32 → Option (Int32 × SM)) (σ : SM) (x1 : Int32) (x2 : Int32) (x3 : Int32) (t0 : Int32) : Option (Int32 × SM) :=
  m_symbolN_70L fu k46 fu σ x1 x2 x3 t0 (0 : Int32)
noncomputable def m_symbolN_137 (fu : Nat) (k137 : SM → Int32 → Int32 → Int32 → Option (Int32 × SM)) (σ : SM) (x1 : Int32) (x2 : Int32) (x3 : Int32) : Option (Int32 × SM) :=
  if x1 ≤ x3 then nx (sf σ 8 ((σ.1 8) + (1 : Int32))) fun s2 => nx (σ.1 8) fun y3 => ckIn y3 24000 (nx (sa s2 4 y3.toNatClampNeg (s2.1 3)) fun s5 => ckIn y3 24000 (nx (sa s5 5 y3.toNatClampNeg x1) fun s7 => ckIn x2 4096 (ckIn y3 24000 (nx (sa s7 6 y3.toNatClampNeg (s7.2 7 x2.toNatClampNeg)) fun s10 => ckIn x2 4096 (nx (sa s10 7 x2.toNatClampNeg y3) fun s12 => nx (sf s12 3 ((s12.1 3) + x1)) fun s13 => some (y3, s13)))))) else ckIn x3 66000 (ckIn ((σ.1 3) + x3) 66000 (nx (sa σ 1 ((σ.1 3) + x3).toNatClampNeg (vp_nar .char (σ.2 2 x3.toNatClampNeg))) fun s16 => nx (x3 + (1 : Int32)) fun y17 => k137 s16 x1 x2 y17))
noncomputable def m_symbolN_137L (fu : Nat) (n : Nat) : SM → Int32 → Int32 → Int32 → Option (Int32 × SM) := lpF (F := SM → Int32 → Int32 → Int32 → Option (Int32 × SM)) (fun _ _ _ _ => none) (fun k => m_symbolN_137 fu k) n
noncomputable def m_symbolN_46 (fu : Nat) (k46 : SM → Int32 → Int32 → Int32 → Option (Int32 × SM)) (σ : SM) (x1 : Int32) (x2 : Int32) (x3 : Int32) : Option (Int32 × SM) :=
  if x3 < 0 then m_symbolN_137L fu fu σ x1 x2 (0 : Int32) else ckIn x3 24000 (if (σ.2 5 x3.toNatClampNeg) = x1 then m_symbolN_65 fu k46 σ x1 x2 x3 (1 : Int32) else m_symbolN_65 fu k46 σ x1 x2 x3 (0 : Int32))
noncomputable def m_symbolN_46L (fu : Nat) (n : Nat) : SM → Int32 → Int32 → Int32 → Option (Int32 × SM) := lpF (F := SM → Int32 → Int32 → Int32 → Option (Int32 × SM)) (fun _ _ _ _ => none) (fun k => m_symbolN_46 fu k) n
noncomputable def m_symbolN_5 (fu : Nat) (k5 : SM → Int32 → Int32 → Int32 → Option (Int32 × SM)) (σ : SM) (x1 : Int32) (x2 : Int32) (x3 : Int32) : Option (Int32 × SM) :=
  if x1 ≤ x3 then nx ((x2 ^^^ ((x2.toUInt32 >>> ((12 : Int32).toUInt32 &&& Int32.toUInt32 31)).toInt32)) &&& (4095 : Int32)) fun y2 => ckIn y2 4096 (nx (σ.2 7 y2.toNatClampNeg) fun y4 => m_symbolN_46L fu fu σ x1 y2 y4) else ckIn x3 66000 (nx (((31 : Int32) * x2) + (σ.2 2 x3.toNatClampNeg)) fun y6 => nx (x3 + (1 : Int32)) fun y7 => k5 σ x1 y6 y7)
noncomputable def m_symbolN_5L (fu : Nat) (n : Nat) : SM → Int32 → Int32 → Int32 → Option (Int32 × SM) := lpF (F := SM → Int32 → Int32 → Int32 → Option (Int32 × SM)) (fun _ _ _ _ => none) (fun k => m_symbolN_5 fu k) n
noncomputable def m_symbolN_0 (fu : Nat) (σ : SM) (x1 : Int32) : Option (Int32 × SM) :=
  m_symbolN_5L fu fu σ x1 (7 : Int32) (0 : Int32)
noncomputable def m_symbolN (fu : Nat) (σ : SM) (x1 : Int32) : Option (Int32 × SM) := m_symbolN_0 fu σ x1
noncomputable def m_symbol_2 (fu : Nat) (k2 : SM → Nat → Int32 → Option (Int32 × SM)) (σ : SM) (x1 : Nat) (x2 : Int32) : Option (Int32 × SM) :=
  ckJ x1 (if (nI (lx x1)) ≤ x2 then ckJ x1 ((m_symbolN fu σ (nI (lx x1))).bind fun r4 => some (r4.1, r4.2)) else ckJ x1 (ckIn x2 (lx x1) (ckIn x2 66000 (nx (sa σ 2 x2.toNatClampNeg (vp_nar .char (cx x1 x2.toNatClampNeg))) fun s9 => nx (x2 + (1 : Int32)) fun y10 => k2 s9 x1 y10))))
noncomputable def m_symbol_2L (fu : Nat) (n : Nat) : SM → Nat → Int32 → Option (Int32 × SM) := lpF (F := SM → Nat → Int32 → Option (Int32 × SM)) (fun _ _ _ => none) (fun k => m_symbol_2 fu k) n
noncomputable def m_symbol_0 (fu : Nat) (σ : SM) (x1 : Nat) : Option (Int32 × SM) :=
  m_symbol_2L fu fu σ x1 (0 : Int32)
noncomputable def m_symbol (fu : Nat) (σ : SM) (x1 : Nat) : Option (Int32 × SM) := m_symbol_0 fu σ x1
noncomputable def m_clear_12 (fu : Nat) (k12 : SM → Int32 → Option SM) (σ : SM) (x1 : Int32) : Option SM :=
  if (4096 : Int32) ≤ x1 then (m_symbol fu σ 10).bind fun r2 => nx (sf r2.2 9 r2.1) fun s4 => (m_symbol fu s4 11).bind fun r5 => nx (sf r5.2 10 r5.1) fun s7 => (m_symbol fu s7 12).bind fun r8 => nx (sf r8.2 11 r8.1) fun s10 => nx (sf s10 20 (0 : Int32)) fun s11 => nx (sf s11 25 (0 : Int32)) fun s12 => nx (sf s12 26 (0 : Int32)) fun s13 => some s13 else ckIn x1 4096 (nx (sa σ 7 x1.toNatClampNeg (-1 : Int32)) fun s15 => nx (x1 + (1 : Int32)) fun y16 => k12 s15 y16)
noncomputable def m_clear_12L (fu : Nat) (n : Nat) : SM → Int32 → Option SM := lpF (F := SM → Int32 → Option SM) (fun _ _ => none) (fun k => m_clear_12 fu k) n
noncomputable def m_clear_0 (fu : Nat) (σ : SM) : Option SM :=
  nx (sf σ 3 (0 : Int32)) fun s1 => nx (sf s1 8 (0 : Int32)) fun s2 => m_clear_12L fu fu s2 (0 : Int32)
noncomputable def m_clear (fu : Nat) (σ : SM) : Option SM := m_clear_0 fu σ
noncomputable def m_four_3 (fu : Nat) (k3 : SM → Int32 → Int32 → Option SM) (σ : SM) (x1 : Int32) (x2 : Int32) : Option SM :=
  if x2 < 0 then some σ else nx (sf σ 19 ((σ.1 19) + (1 : Int32))) fun s2 => ckIn (σ.1 19) 65560 (nx (sa s2 15 (σ.1 19).toNatClampNeg (vp_nar .byte (((x1.toUInt32 >>> (x2.toUInt32 &&& Int32.toUInt32 31)).toInt32).toInt8.toInt32))) fun s4 => nx (x2 + (-8 : Int32)) fun y5 => k3 s4 x1 y5)
noncomputable def m_four_3L (fu : Nat) (n : Nat) : SM → Int32 → Int32 → Option SM := lpF (F := SM → Int32 → Int32 → Option SM) (fun _ _ _ => none) (fun k => m_four_3 fu k) n
noncomputable def m_four_0 (fu : Nat) (σ : SM) (x1 : Int32) : Option SM :=
  m_four_3L fu fu σ x1 (24 : Int32)
noncomputable def m_four (fu : Nat) (σ : SM) (x1 : Int32) : Option SM := m_four_0 fu σ x1
noncomputable def m_feed_0 (fu : Nat) (σ : SM) (x1 : Int32) (x2 : Int32) (x3 : Int32) (x4 : Int32) (x5 : Int32) : Option (Int32 × SM) :=
  nx (sf σ 0 (0 : Int32)) fun s1 => if ((s1.1 19) + (20 : Int32)) ≤ (65540 : Int32) then (m_four fu s1 x1).bind fun r3 => (m_four fu r3 x2).bind fun r5 => (m_four fu r5 x3).bind fun r7 => (m_four fu r7 x4).bind fun r9 => (m_four fu r9 x5).bind fun r11 => some (r11.1 19, r11) else nx (sf s1 0 (1 : Int32)) fun s13 => some ((0 : Int32), s13)
noncomputable def m_feed (fu : Nat) (σ : SM) (x1 : Int32) (x2 : Int32) (x3 : Int32) (x4 : Int32) (x5 : Int32) : Option (Int32 × SM) := m_feed_0 fu σ x1 x2 x3 x4 x5
noncomputable def m_bad_0 (σ : SM) : Option (Int32 × SM) :=
  nx (sf σ 0 (1 : Int32)) fun s1 => some ((0 : Int32), s1)
noncomputable def m_bad (σ : SM) : Option (Int32 × SM) := m_bad_0 σ
noncomputable def m_end_17 (fu : Nat) (σ : SM) : Option (Int32 × SM) :=
  (m_bad σ).bind fun r1 => some (r1.1, r1.2)
noncomputable def m_end_24 (fu : Nat) (k24 : SM → Int32 → Int32 → Option (Int32 × SM)) (σ : SM) (x1 : Int32) (x2 : Int32) : Option (Int32 × SM) :=
  if x1 ≤ x2 then nx (sf σ 17 x1) fun s2 => nx (sf s2 19 (0 : Int32)) fun s3 => some (x1, s3) else ckIn x2 65560 (ckIn x2 65560 (nx (sa σ 13 x2.toNatClampNeg (vp_nar .byte (σ.2 15 x2.toNatClampNeg))) fun s6 => nx (x2 + (1 : Int32)) fun y7 => k24 s6 x1 y7))
noncomputable def m_end_24L (fu : Nat) (n : Nat) : SM → Int32 → Int32 → Option (Int32 × SM) := lpF (F := SM → Int32 → Int32 → Option (Int32 × SM)) (fun _ _ _ => none) (fun k => m_end_24 fu k) n
noncomputable def m_end_0 (fu : Nat) (σ : SM) (x1 : Int32) : Option (Int32 × SM) :=
  nx (sf σ 0 (0 : Int32)) fun s1 => if x1 < 0 then m_end_17 fu s1 else if x1 ≤ (s1.1 19) then m_end_24L fu fu s1 x1 (0 : Int32) else m_end_17 fu s1
noncomputable def m_end (fu : Nat) (σ : SM) (x1 : Int32) : Option (Int32 × SM) := m_end_0 fu σ x1
noncomputable def m_wrong_0 (σ : SM) (x1 : Int32) (x2 : Int32) : Option (Int32 × SM) :=
  nx (sf σ 47 x1) fun s1 => nx (sf s1 48 x2) fun s2 => some ((0 : Int32), s2)
noncomputable def m_wrong (σ : SM) (x1 : Int32) (x2 : Int32) : Option (Int32 × SM) := m_wrong_0 σ x1 x2
noncomputable def m_item_28 (σ : SM) : Option (Int32 × SM) :=
  some ((1 : Int32), σ)
noncomputable def m_item_0 (σ : SM) (x1 : Int64) : Option (Int32 × SM) :=
  if (lg_cmp (((σ.1 50).toInt64) + x1) ((σ.1 16).toInt64)) ≤ 0 then m_item_28 σ else (m_wrong σ (1 : Int32) (σ.1 50)).bind fun r2 => if r2.1 = 0 then some ((0 : Int32), r2.2) else m_item_28 r2.2
noncomputable def m_item (σ : SM) (x1 : Int64) : Option (Int32 × SM) := m_item_0 σ x1
noncomputable def m_u1_0 (σ : SM) (x1 : Int32) : Option Int32 :=
  ckIn ((σ.1 49) + x1) 65600 (some ((σ.2 12 ((σ.1 49) + x1).toNatClampNeg) &&& (255 : Int32)))
noncomputable def m_u1 (σ : SM) (x1 : Int32) : Option Int32 := m_u1_0 σ x1
noncomputable def m_u2_0 (σ : SM) (x1 : Int32) : Option Int32 :=
  (m_u1 σ x1).bind fun r1 => (m_u1 σ (x1 + (1 : Int32))).bind fun r3 => some ((r1 <<< ((8 : Int32) &&& 31)) ||| r3)
noncomputable def m_u2 (σ : SM) (x1 : Int32) : Option Int32 := m_u2_0 σ x1
noncomputable def m_u4_0 (σ : SM) (x1 : Int32) : Option Int64 :=
  (m_u2 σ x1).bind fun r1 => (m_u2 σ (x1 + (2 : Int32))).bind fun r3 => some ((r1.toInt64 <<< ((16 : Int32).toInt64 &&& 63)) ||| r3.toInt64)
noncomputable def m_u4 (σ : SM) (x1 : Int32) : Option Int64 := m_u4_0 σ x1
noncomputable def m_utf8_55 (fu : Nat) (σ : SM) (x5 : Int32) : Option (Int32 × SM) :=
  (m_wrong σ (6 : Int32) x5).bind fun r1 => ckN .boolean r1.1 (some (r1.1, r1.2))
noncomputable def m_utf8_130 (fu : Nat) (σ : SM) (x5 : Int32) : Option (Int32 × SM) :=
  (m_wrong σ (6 : Int32) x5).bind fun r1 => ckN .boolean r1.1 (some (r1.1, r1.2))
noncomputable def m_utf8_228 (fu : Nat) (k11 : SM → Int32 → Int32 → Int32 → Int32 → Option (Int32 × SM)) (σ : SM) (x1 : Int32) (x4 : Int32) (x5 : Int32) (x6 : Int32) (x8 : Int32) (t0 : Int32) (t1 : Int32) : Option (Int32 × SM) :=
  ckIn t1 66000 (nx (sa σ 2 t1.toNatClampNeg (vp_nar .char ((t0.toUInt32 % 65536).toInt32))) fun s2 => nx (x5 + (x8 + (1 : Int32))) fun y3 => k11 s2 x1 x4 y3 x6)
noncomputable def m_utf8_94 (fu : Nat) (k11 : SM → Int32 → Int32 → Int32 → Int32 → Option (Int32 × SM)) (k94 : SM → Int32 → Int32 → Int32 → Int32 → Int32 → Int32 → Int32 → Option (Int32 × SM)) (σ : SM) (x1 : Int32) (x4 : Int32) (x5 : Int32) (x6 : Int32) (x7 : Int32) (x8 : Int32) (x9 : Int32) : Option (Int32 × SM) :=
  if x8 < x9 then nx (x4 + (1 : Int32)) fun y2 => if x8 = 0 then m_utf8_228 fu k11 σ x1 y2 x5 x6 x8 x7 x4 else if x8 = (1 : Int32) then (m_u1 σ (x5 + (1 : Int32))).bind fun r9 => m_utf8_228 fu k11 σ x1 y2 x5 x6 x8 (((x7 &&& (31 : Int32)) <<< ((6 : Int32) &&& 31)) ||| (r9 &&& (63 : Int32))) x4 else (m_u1 σ (x5 + (1 : Int32))).bind fun r5 => (m_u1 σ (x5 + (2 : Int32))).bind fun r7 => m_utf8_228 fu k11 σ x1 y2 x5 x6 x8 ((((x7 &&& (15 : Int32)) <<< ((12 : Int32) &&& 31)) ||| ((r5 &&& (63 : Int32)) <<< ((6 : Int32) &&& 31))) ||| (r7 &&& (63 : Int32))) x4 else if x6 ≤ (x5 + x9) then m_utf8_130 fu σ x5 else (m_u1 σ (x5 + x9)).bind fun r12 => if (r12 &&& (192 : Int32)) = (128 : Int32) then nx (x9 + (1 : Int32)) fun y15 => k94 σ x1 x4 x5 x6 x7 x8 y15 else m_utf8_130 fu σ x5
noncomputable def m_utf8_94L (fu : Nat) (k11 : SM → Int32 → Int32 → Int32 → Int32 → Option (Int32 × SM)) (n : Nat) : SM → Int32 → Int32 → Int32 → Int32 → Int32 → Int32 → Int32 → Option (Int32 × SM) := lpF (F := SM → Int32 → Int32 → Int32 → Int32 → Int32 → Int32 → Int32 → Option (Int32 × SM)) (fun _ _ _ _ _ _ _ _ => none) (fun k => m_utf8_94 fu k11 k) n
noncomputable def m_utf8_89 (fu : Nat) (k11 : SM → Int32 → Int32 → Int32 → Int32 → Option (Int32 × SM)) (σ : SM) (x1 : Int32) (x4 : Int32) (x5 : Int32) (x6 : Int32) (x7 : Int32) (t0 : Int32) : Option (Int32 × SM) :=
  m_utf8_94L fu k11 fu σ x1 x4 x5 x6 x7 t0 (1 : Int32)
noncomputable def m_utf8_64 (fu : Nat) (k11 : SM → Int32 → Int32 → Int32 → Int32 → Option (Int32 × SM)) (σ : SM) (x1 : Int32) (x4 : Int32) (x5 : Int32) (x6 : Int32) (x7 : Int32) : Option (Int32 × SM) :=
  if (128 : Int32) ≤ x7 then if (224 : Int32) ≤ x7 then m_utf8_89 fu k11 σ x1 x4 x5 x6 x7 (2 : Int32) else m_utf8_89 fu k11 σ x1 x4 x5 x6 x7 (1 : Int32) else m_utf8_89 fu k11 σ x1 x4 x5 x6 x7 (0 : Int32)
noncomputable def m_utf8_11 (fu : Nat) (k11 : SM → Int32 → Int32 → Int32 → Int32 → Option (Int32 × SM)) (σ : SM) (x1 : Int32) (x4 : Int32) (x5 : Int32) (x6 : Int32) : Option (Int32 × SM) :=
  if x6 ≤ x5 then (m_symbolN fu σ x4).bind fun r2 => ckIn x1 65540 (nx (sa r2.2 22 x1.toNatClampNeg r2.1) fun s5 => some ((1 : Int32), s5)) else (m_u1 σ x5).bind fun r6 => if r6 = 0 then m_utf8_55 fu σ x5 else if (240 : Int32) ≤ r6 then m_utf8_55 fu σ x5 else if r6 < (128 : Int32) then m_utf8_64 fu k11 σ x1 x4 x5 x6 r6 else if (191 : Int32) < r6 then m_utf8_64 fu k11 σ x1 x4 x5 x6 r6 else m_utf8_55 fu σ x5
noncomputable def m_utf8_11L (fu : Nat) (n : Nat) : SM → Int32 → Int32 → Int32 → Int32 → Option (Int32 × SM) := lpF (F := SM → Int32 → Int32 → Int32 → Int32 → Option (Int32 × SM)) (fun _ _ _ _ _ => none) (fun k => m_utf8_11 fu k) n
noncomputable def m_utf8_0 (fu : Nat) (σ : SM) (x1 : Int32) (x2 : Int32) (x3 : Int32) : Option (Int32 × SM) :=
  nx (x2 + x3) fun y1 => m_utf8_11L fu fu σ x1 (0 : Int32) x2 y1
noncomputable def m_utf8 (fu : Nat) (σ : SM) (x1 : Int32) (x2 : Int32) (x3 : Int32) : Option (Int32 × SM) := m_utf8_0 fu σ x1 x2 x3
noncomputable def m_readPool_525 (fu : Nat) (k20 : SM → Int32 → Option (Int32 × SM)) (σ : SM) (x1 : Int32) : Option (Int32 × SM) :=
  nx (x1 + (1 : Int32)) fun y1 => k20 σ y1
noncomputable def m_readPool_510 (fu : Nat) (k20 : SM → Int32 → Option (Int32 × SM)) (σ : SM) (x1 : Int32) : Option (Int32 × SM) :=
  nx (x1 + (1 : Int32)) fun y1 => ckIn ((σ.1 51) + y1) 65540 (nx (sa σ 21 ((σ.1 51) + y1).toNatClampNeg (-1 : Int32)) fun s3 => m_readPool_525 fu k20 s3 y1)
noncomputable def m_readPool_499 (fu : Nat) (k20 : SM → Int32 → Option (Int32 × SM)) (σ : SM) (x1 : Int32) (x2 : Int32) : Option (Int32 × SM) :=
  if x2 = (5 : Int32) then m_readPool_510 fu k20 σ x1 else if x2 = (6 : Int32) then m_readPool_510 fu k20 σ x1 else m_readPool_525 fu k20 σ x1
noncomputable def m_readPool_358 (fu : Nat) (k20 : SM → Int32 → Option (Int32 × SM)) (σ : SM) (x1 : Int32) (x2 : Int32) : Option (Int32 × SM) :=
  (m_item σ (4 : Int64)).bind fun r1 => if r1.1 = 0 then some ((0 : Int32), r1.2) else nx (sf r1.2 50 ((r1.2.1 50) + (4 : Int32))) fun s4 => m_readPool_499 fu k20 s4 x1 x2
noncomputable def m_readPool_397 (fu : Nat) (k20 : SM → Int32 → Option (Int32 × SM)) (k397 : SM → Int32 → Int32 → Int32 → Option (Int32 × SM)) (σ : SM) (x1 : Int32) (x2 : Int32) (x5 : Int32) : Option (Int32 × SM) :=
  if (2 : Int32) ≤ x5 then m_readPool_499 fu k20 σ x1 x2 else (m_item σ (4 : Int64)).bind fun r2 => if r2.1 = 0 then some ((0 : Int32), r2.2) else nx (sf r2.2 50 ((r2.2.1 50) + (4 : Int32))) fun s5 => nx (x5 + (1 : Int32)) fun y6 => k397 s5 x1 x2 y6
noncomputable def m_readPool_397L (fu : Nat) (k20 : SM → Int32 → Option (Int32 × SM)) (n : Nat) : SM → Int32 → Int32 → Int32 → Option (Int32 × SM) := lpF (F := SM → Int32 → Int32 → Int32 → Option (Int32 × SM)) (fun _ _ _ _ => none) (fun k => m_readPool_397 fu k20 k) n
noncomputable def m_readPool_394 (fu : Nat) (k20 : SM → Int32 → Option (Int32 × SM)) (σ : SM) (x1 : Int32) (x2 : Int32) : Option (Int32 × SM) :=
  m_readPool_397L fu k20 fu σ x1 x2 (0 : Int32)
noncomputable def m_readPool_468 (fu : Nat) (k20 : SM → Int32 → Option (Int32 × SM)) (k437 : SM → Int32 → Int32 → Int32 → Option (Int32 × SM)) (σ : SM) (x1 : Int32) (x2 : Int32) (x5 : Int32) (t0 : Int32) (t1 : Int32) : Option (Int32 × SM) :=
  if t0 ≤ t1 then m_readPool_499 fu k20 σ x1 x2 else (m_item σ (2 : Int64)).bind fun r2 => if r2.1 = 0 then some ((0 : Int32), r2.2) else nx (sf r2.2 50 ((r2.2.1 50) + (2 : Int32))) fun s5 => nx (x5 + (1 : Int32)) fun y6 => k437 s5 x1 x2 y6
noncomputable def m_readPool_463 (fu : Nat) (k20 : SM → Int32 → Option (Int32 × SM)) (k437 : SM → Int32 → Int32 → Int32 → Option (Int32 × SM)) (σ : SM) (x1 : Int32) (x2 : Int32) (x5 : Int32) (t0 : Int32) : Option (Int32 × SM) :=
  m_readPool_468 fu k20 k437 σ x1 x2 x5 (2 : Int32) t0
noncomputable def m_readPool_451 (fu : Nat) (k20 : SM → Int32 → Option (Int32 × SM)) (k437 : SM → Int32 → Int32 → Int32 → Option (Int32 × SM)) (σ : SM) (x1 : Int32) (x2 : Int32) (x5 : Int32) (t0 : Int32) : Option (Int32 × SM) :=
  if x2 = (17 : Int32) then m_readPool_463 fu k20 k437 σ x1 x2 x5 t0 else if x2 = (18 : Int32) then m_readPool_463 fu k20 k437 σ x1 x2 x5 t0 else m_readPool_468 fu k20 k437 σ x1 x2 x5 (1 : Int32) t0
noncomputable def m_readPool_437 (fu : Nat) (k20 : SM → Int32 → Option (Int32 × SM)) (k437 : SM → Int32 → Int32 → Int32 → Option (Int32 × SM)) (σ : SM) (x1 : Int32) (x2 : Int32) (x5 : Int32) : Option (Int32 × SM) :=
  if x2 < (9 : Int32) then m_readPool_451 fu k20 k437 σ x1 x2 x5 x5 else if x2 ≤ (12 : Int32) then m_readPool_463 fu k20 k437 σ x1 x2 x5 x5 else m_readPool_451 fu k20 k437 σ x1 x2 x5 x5
noncomputable def m_readPool_437L (fu : Nat) (k20 : SM → Int32 → Option (Int32 × SM)) (n : Nat) : SM → Int32 → Int32 → Int32 → Option (Int32 × SM) := lpF (F := SM → Int32 → Int32 → Int32 → Option (Int32 × SM)) (fun _ _ _ _ => none) (fun k => m_readPool_437 fu k20 k) n
noncomputable def m_readPool_203 (fu : Nat) (k20 : SM → Int32 → Option (Int32 × SM)) (σ : SM) (x1 : Int32) (x2 : Int32) : Option (Int32 × SM) :=
  nx (sf σ 50 ((σ.1 50) + (1 : Int32))) fun s1 => if x2 = (1 : Int32) then (m_item s1 (2 : Int64)).bind fun r16 => if r16.1 = 0 then some ((0 : Int32), r16.2) else (m_u2 r16.2 (r16.2.1 50)).bind fun r19 => nx (sf r16.2 50 ((r16.2.1 50) + (2 : Int32))) fun s21 => (m_item s21 r19.toInt64).bind fun r22 => if r22.1 = 0 then some ((0 : Int32), r22.2) else (m_utf8 fu r22.2 ((r22.2.1 51) + x1) (r22.2.1 50) r19).bind fun r25 => if r25.1 = 0 then some ((0 : Int32), r25.2) else nx (sf r25.2 50 ((r25.2.1 50) + r19)) fun s28 => m_readPool_499 fu k20 s28 x1 x2 else if x2 = (15 : Int32) then (m_item s1 (1 : Int64)).bind fun r8 => if r8.1 = 0 then some ((0 : Int32), r8.2) else nx (sf r8.2 50 ((r8.2.1 50) + (1 : Int32))) fun s11 => (m_item s11 (2 : Int64)).bind fun r12 => if r12.1 = 0 then some ((0 : Int32), r12.2) else nx (sf r12.2 50 ((r12.2.1 50) + (2 : Int32))) fun s15 => m_readPool_499 fu k20 s15 x1 x2 else if x2 = (3 : Int32) then m_readPool_358 fu k20 s1 x1 x2 else if x2 = (4 : Int32) then m_readPool_358 fu k20 s1 x1 x2 else if x2 = (5 : Int32) then m_readPool_394 fu k20 s1 x1 x2 else if x2 = (6 : Int32) then m_readPool_394 fu k20 s1 x1 x2 else m_readPool_437L fu k20 fu s1 x1 x2 (0 : Int32)
noncomputable def m_readPool_185 (fu : Nat) (k20 : SM → Int32 → Option (Int32 × SM)) (σ : SM) (x1 : Int32) (x2 : Int32) (x3 : Int32) : Option (Int32 × SM) :=
  if (x1 + (1 : Int32)) < (σ.1 52) then m_readPool_203 fu k20 σ x1 x2 else (m_wrong σ (7 : Int32) x3).bind fun r2 => ckN .boolean r2.1 (some (r2.1, r2.2))
noncomputable def m_readPool_160 (fu : Nat) (k20 : SM → Int32 → Option (Int32 × SM)) (σ : SM) (x1 : Int32) (x2 : Int32) (x3 : Int32) (t0 : Int32) : Option (Int32 × SM) :=
  if t0 = 0 then (m_wrong σ (5 : Int32) x3).bind fun r4 => ckN .boolean r4.1 (some (r4.1, r4.2)) else if x2 = (5 : Int32) then m_readPool_185 fu k20 σ x1 x2 x3 else if x2 = (6 : Int32) then m_readPool_185 fu k20 σ x1 x2 x3 else m_readPool_203 fu k20 σ x1 x2
noncomputable def m_readPool_155 (fu : Nat) (k20 : SM → Int32 → Option (Int32 × SM)) (σ : SM) (x1 : Int32) (x2 : Int32) (x3 : Int32) : Option (Int32 × SM) :=
  m_readPool_160 fu k20 σ x1 x2 x3 (1 : Int32)
noncomputable def m_readPool_159 (fu : Nat) (k20 : SM → Int32 → Option (Int32 × SM)) (σ : SM) (x1 : Int32) (x2 : Int32) (x3 : Int32) : Option (Int32 × SM) :=
  m_readPool_160 fu k20 σ x1 x2 x3 (0 : Int32)
noncomputable def m_readPool_140 (fu : Nat) (k20 : SM → Int32 → Option (Int32 × SM)) (σ : SM) (x1 : Int32) (x2 : Int32) (x3 : Int32) : Option (Int32 × SM) :=
  if x2 = (17 : Int32) then if (σ.1 53) < (55 : Int32) then m_readPool_159 fu k20 σ x1 x2 x3 else m_readPool_155 fu k20 σ x1 x2 x3 else m_readPool_159 fu k20 σ x1 x2 x3
noncomputable def m_readPool_131 (fu : Nat) (k20 : SM → Int32 → Option (Int32 × SM)) (σ : SM) (x1 : Int32) (x2 : Int32) (x3 : Int32) : Option (Int32 × SM) :=
  if (53 : Int32) ≤ (σ.1 53) then m_readPool_155 fu k20 σ x1 x2 x3 else m_readPool_140 fu k20 σ x1 x2 x3
noncomputable def m_readPool_119 (fu : Nat) (k20 : SM → Int32 → Option (Int32 × SM)) (σ : SM) (x1 : Int32) (x2 : Int32) (x3 : Int32) : Option (Int32 × SM) :=
  if x2 = (19 : Int32) then m_readPool_131 fu k20 σ x1 x2 x3 else if x2 = (20 : Int32) then m_readPool_131 fu k20 σ x1 x2 x3 else m_readPool_140 fu k20 σ x1 x2 x3
noncomputable def m_readPool_110 (fu : Nat) (k20 : SM → Int32 → Option (Int32 × SM)) (σ : SM) (x1 : Int32) (x2 : Int32) (x3 : Int32) : Option (Int32 × SM) :=
  if (51 : Int32) ≤ (σ.1 53) then m_readPool_155 fu k20 σ x1 x2 x3 else m_readPool_119 fu k20 σ x1 x2 x3
noncomputable def m_readPool_92 (fu : Nat) (k20 : SM → Int32 → Option (Int32 × SM)) (σ : SM) (x1 : Int32) (x2 : Int32) (x3 : Int32) : Option (Int32 × SM) :=
  if x2 = (15 : Int32) then m_readPool_110 fu k20 σ x1 x2 x3 else if x2 = (16 : Int32) then m_readPool_110 fu k20 σ x1 x2 x3 else if x2 = (18 : Int32) then m_readPool_110 fu k20 σ x1 x2 x3 else m_readPool_119 fu k20 σ x1 x2 x3
noncomputable def m_readPool_20 (fu : Nat) (k20 : SM → Int32 → Option (Int32 × SM)) (σ : SM) (x1 : Int32) : Option (Int32 × SM) :=
  if (σ.1 52) ≤ x1 then nx (sf σ 20 ((σ.1 51) + (σ.1 52))) fun s2 => some ((1 : Int32), s2) else (m_item σ (1 : Int64)).bind fun r3 => if r3.1 = 0 then some ((0 : Int32), r3.2) else (m_u1 r3.2 (r3.2.1 50)).bind fun r6 => nx (r3.2.1 50) fun y8 => ckIn ((r3.2.1 51) + x1) 65540 (nx (sa r3.2 21 ((r3.2.1 51) + x1).toNatClampNeg y8) fun s10 => ckIn ((s10.1 51) + x1) 65540 (nx (sa s10 22 ((s10.1 51) + x1).toNatClampNeg (-1 : Int32)) fun s12 => if r6 = (1 : Int32) then m_readPool_155 fu k20 s12 x1 r6 y8 else if r6 < (3 : Int32) then m_readPool_92 fu k20 s12 x1 r6 y8 else if r6 ≤ (12 : Int32) then m_readPool_155 fu k20 s12 x1 r6 y8 else m_readPool_92 fu k20 s12 x1 r6 y8))
noncomputable def m_readPool_20L (fu : Nat) (n : Nat) : SM → Int32 → Option (Int32 × SM) := lpF (F := SM → Int32 → Option (Int32 × SM)) (fun _ _ => none) (fun k => m_readPool_20 fu k) n
noncomputable def m_readPool_0 (fu : Nat) (σ : SM) : Option (Int32 × SM) :=
  nx (sf σ 51 (σ.1 20)) fun s1 => ckIn (s1.1 51) 65540 (nx (sa s1 21 (s1.1 51).toNatClampNeg (-1 : Int32)) fun s3 => m_readPool_20L fu fu s3 (1 : Int32))
noncomputable def m_readPool (fu : Nat) (σ : SM) : Option (Int32 × SM) := m_readPool_0 fu σ
noncomputable def m_attributes_33 (fu : Nat) (k33 : SM → Int32 → Int32 → Option (Int32 × SM)) (σ : SM) (x1 : Int32) (x2 : Int32) : Option (Int32 × SM) :=
  if x1 ≤ x2 then some ((1 : Int32), σ) else (m_item σ (2 : Int64)).bind fun r2 => if r2.1 = 0 then some ((0 : Int32), r2.2) else nx (sf r2.2 50 ((r2.2.1 50) + (2 : Int32))) fun s5 => (m_item s5 (4 : Int64)).bind fun r6 => if r6.1 = 0 then some ((0 : Int32), r6.2) else (m_u4 r6.2 (r6.2.1 50)).bind fun r9 => nx (sf r6.2 50 ((r6.2.1 50) + (4 : Int32))) fun s11 => (m_item s11 r9).bind fun r12 => if r12.1 = 0 then some ((0 : Int32), r12.2) else nx (sf r12.2 50 ((r12.2.1 50) + r9.toInt32)) fun s15 => nx (x2 + (1 : Int32)) fun y16 => k33 s15 x1 y16
noncomputable def m_attributes_33L (fu : Nat) (n : Nat) : SM → Int32 → Int32 → Option (Int32 × SM) := lpF (F := SM → Int32 → Int32 → Option (Int32 × SM)) (fun _ _ _ => none) (fun k => m_attributes_33 fu k) n
noncomputable def m_attributes_0 (fu : Nat) (σ : SM) : Option (Int32 × SM) :=
  (m_item σ (2 : Int64)).bind fun r1 => if r1.1 = 0 then some ((0 : Int32), r1.2) else (m_u2 r1.2 (r1.2.1 50)).bind fun r4 => nx (sf r1.2 50 ((r1.2.1 50) + (2 : Int32))) fun s6 => m_attributes_33L fu fu s6 r4 (0 : Int32)
noncomputable def m_attributes (fu : Nat) (σ : SM) : Option (Int32 × SM) := m_attributes_0 fu σ
noncomputable def m_members_40 (fu : Nat) (k33 : SM → Int32 → Int32 → Option (Int32 × SM)) (k40 : SM → Int32 → Int32 → Int32 → Option (Int32 × SM)) (σ : SM) (x1 : Int32) (x2 : Int32) (x3 : Int32) : Option (Int32 × SM) :=
  if (3 : Int32) ≤ x3 then (m_attributes fu σ).bind fun r2 => if r2.1 = 0 then some ((0 : Int32), r2.2) else nx (x2 + (1 : Int32)) fun y5 => k33 r2.2 x1 y5 else (m_item σ (2 : Int64)).bind fun r6 => if r6.1 = 0 then some ((0 : Int32), r6.2) else nx (sf r6.2 50 ((r6.2.1 50) + (2 : Int32))) fun s9 => nx (x3 + (1 : Int32)) fun y10 => k40 s9 x1 x2 y10
noncomputable def m_members_40L (fu : Nat) (k33 : SM → Int32 → Int32 → Option (Int32 × SM)) (n : Nat) : SM → Int32 → Int32 → Int32 → Option (Int32 × SM) := lpF (F := SM → Int32 → Int32 → Int32 → Option (Int32 × SM)) (fun _ _ _ _ => none) (fun k => m_members_40 fu k33 k) n
noncomputable def m_members_33 (fu : Nat) (k33 : SM → Int32 → Int32 → Option (Int32 × SM)) (σ : SM) (x1 : Int32) (x2 : Int32) : Option (Int32 × SM) :=
  if x1 ≤ x2 then some ((1 : Int32), σ) else m_members_40L fu k33 fu σ x1 x2 (0 : Int32)
noncomputable def m_members_33L (fu : Nat) (n : Nat) : SM → Int32 → Int32 → Option (Int32 × SM) := lpF (F := SM → Int32 → Int32 → Option (Int32 × SM)) (fun _ _ _ => none) (fun k => m_members_33 fu k) n
noncomputable def m_members_0 (fu : Nat) (σ : SM) : Option (Int32 × SM) :=
  (m_item σ (2 : Int64)).bind fun r1 => if r1.1 = 0 then some ((0 : Int32), r1.2) else (m_u2 r1.2 (r1.2.1 50)).bind fun r4 => nx (sf r1.2 50 ((r1.2.1 50) + (2 : Int32))) fun s6 => m_members_33L fu fu s6 r4 (0 : Int32)
noncomputable def m_members (fu : Nat) (σ : SM) : Option (Int32 × SM) := m_members_0 fu σ
noncomputable def m_readFile_116 (fu : Nat) (σ : SM) : Option (Int32 × SM) :=
  (m_wrong σ (3 : Int32) (4 : Int32)).bind fun r1 => ckN .boolean r1.1 (some (r1.1, r1.2))
noncomputable def m_readFile_345 (fu : Nat) (σ : SM) : Option (Int32 × SM) :=
  some ((1 : Int32), σ)
noncomputable def m_readFile_237 (fu : Nat) (k237 : SM → Int32 → Int32 → Option (Int32 × SM)) (σ : SM) (x1 : Int32) (x2 : Int32) : Option (Int32 × SM) :=
  if x1 ≤ x2 then nx (sf σ 55 (σ.1 50)) fun s2 => (m_members fu s2).bind fun r3 => if r3.1 = 0 then some ((0 : Int32), r3.2) else nx (sf r3.2 56 (r3.2.1 50)) fun s6 => (m_members fu s6).bind fun r7 => if r7.1 = 0 then some ((0 : Int32), r7.2) else nx (sf r7.2 57 (r7.2.1 50)) fun s10 => (m_attributes fu s10).bind fun r11 => if r11.1 = 0 then some ((0 : Int32), r11.2) else if (r11.2.1 50) = (r11.2.1 16) then m_readFile_345 fu r11.2 else (m_wrong r11.2 (8 : Int32) (r11.2.1 50)).bind fun r15 => if r15.1 = 0 then some ((0 : Int32), r15.2) else m_readFile_345 fu r15.2 else (m_item σ (2 : Int64)).bind fun r18 => if r18.1 = 0 then some ((0 : Int32), r18.2) else nx (sf r18.2 50 ((r18.2.1 50) + (2 : Int32))) fun s21 => nx (x2 + (1 : Int32)) fun y22 => k237 s21 x1 y22
noncomputable def m_readFile_237L (fu : Nat) (n : Nat) : SM → Int32 → Int32 → Option (Int32 × SM) := lpF (F := SM → Int32 → Int32 → Option (Int32 × SM)) (fun _ _ _ => none) (fun k => m_readFile_237 fu k) n
noncomputable def m_readFile_191 (fu : Nat) (k191 : SM → Int32 → Option (Int32 × SM)) (σ : SM) (x1 : Int32) : Option (Int32 × SM) :=
  if (4 : Int32) ≤ x1 then (m_u2 σ ((σ.1 50) - (2 : Int32))).bind fun r2 => m_readFile_237L fu fu σ r2 (0 : Int32) else (m_item σ (2 : Int64)).bind fun r4 => if r4.1 = 0 then some ((0 : Int32), r4.2) else nx (sf r4.2 50 ((r4.2.1 50) + (2 : Int32))) fun s7 => nx (x1 + (1 : Int32)) fun y8 => k191 s7 y8
noncomputable def m_readFile_191L (fu : Nat) (n : Nat) : SM → Int32 → Option (Int32 × SM) := lpF (F := SM → Int32 → Option (Int32 × SM)) (fun _ _ => none) (fun k => m_readFile_191 fu k) n
noncomputable def m_readFile_123 (fu : Nat) (σ : SM) : Option (Int32 × SM) :=
  nx (sf σ 50 (8 : Int32)) fun s1 => (m_item s1 (2 : Int64)).bind fun r2 => if r2.1 = 0 then some ((0 : Int32), r2.2) else (m_u2 r2.2 (8 : Int32)).bind fun r5 => nx (sf r2.2 52 r5) fun s7 => if (s7.1 52) = 0 then (m_wrong s7 (4 : Int32) (8 : Int32)).bind fun r14 => ckN .boolean r14.1 (some (r14.1, r14.2)) else nx (sf s7 50 (10 : Int32)) fun s9 => (m_readPool fu s9).bind fun r10 => if r10.1 = 0 then some ((0 : Int32), r10.2) else nx (sf r10.2 54 (r10.2.1 50)) fun s13 => m_readFile_191L fu fu s13 (0 : Int32)
noncomputable def m_readFile_0 (fu : Nat) (σ : SM) : Option (Int32 × SM) :=
  nx (sf σ 50 (0 : Int32)) fun s1 => (m_item s1 (4 : Int64)).bind fun r2 => if r2.1 = 0 then some ((0 : Int32), r2.2) else (m_u4 r2.2 (0 : Int32)).bind fun r5 => if (lg_cmp r5 (3405691582 : Int64)) = 0 then nx (sf r2.2 50 (4 : Int32)) fun s8 => (m_item s8 (2 : Int64)).bind fun r9 => if r9.1 = 0 then some ((0 : Int32), r9.2) else nx (sf r9.2 50 (6 : Int32)) fun s12 => (m_item s12 (2 : Int64)).bind fun r13 => if r13.1 = 0 then some ((0 : Int32), r13.2) else (m_u2 r13.2 (6 : Int32)).bind fun r16 => nx (sf r13.2 53 r16) fun s18 => if (s18.1 53) < (45 : Int32) then m_readFile_116 fu s18 else if (61 : Int32) < (s18.1 53) then m_readFile_116 fu s18 else if (s18.1 53) < (56 : Int32) then m_readFile_123 fu s18 else (m_u2 s18 (4 : Int32)).bind fun r22 => if r22 = 0 then m_readFile_123 fu s18 else m_readFile_116 fu s18 else (m_wrong r2.2 (2 : Int32) (0 : Int32)).bind fun r25 => ckN .boolean r25.1 (some (r25.1, r25.2))
noncomputable def m_readFile (fu : Nat) (σ : SM) : Option (Int32 × SM) := m_readFile_0 fu σ
noncomputable def m_index_0 (σ : SM) (x1 : Int32) (x2 : Int32) : Option Int32 :=
  ckIn ((σ.1 51) + x1) 65540 ((m_u2 σ ((σ.2 21 ((σ.1 51) + x1).toNatClampNeg) + x2)).bind fun r2 => some r2)
noncomputable def m_index (σ : SM) (x1 : Int32) (x2 : Int32) : Option Int32 := m_index_0 σ x1 x2
noncomputable def m_tag_26 (σ : SM) : Option Int32 :=
  some (0 : Int32)
noncomputable def m_tag_0 (σ : SM) (x1 : Int32) : Option Int32 :=
  if x1 ≤ 0 then m_tag_26 σ else if (σ.1 52) ≤ x1 then m_tag_26 σ else ckIn ((σ.1 51) + x1) 65540 (if 0 ≤ (σ.2 21 ((σ.1 51) + x1).toNatClampNeg) then ckIn ((σ.1 51) + x1) 65540 ((m_u1 σ (σ.2 21 ((σ.1 51) + x1).toNatClampNeg)).bind fun r6 => some r6) else m_tag_26 σ)
noncomputable def m_tag (σ : SM) (x1 : Int32) : Option Int32 := m_tag_0 σ x1
noncomputable def m_indexes_c_30 (σ : SM) (x1 : Int32) : Option Int32 :=
  (m_index σ x1 (1 : Int32)).bind fun r1 => (m_tag σ r1).bind fun r3 => if r3 = (1 : Int32) then some (1 : Int32) else some (0 : Int32)
noncomputable def m_indexes_c_128 (σ : SM) : Option Int32 :=
  some (0 : Int32)
noncomputable def m_indexes_c_168 (σ : SM) : Option Int32 :=
  some (0 : Int32)
noncomputable def m_indexes_c_223 (σ : SM) : Option Int32 :=
  some (1 : Int32)
noncomputable def m_indexes_c_227 (σ : SM) : Option Int32 :=
  some (0 : Int32)
noncomputable def m_indexes_c_276 (σ : SM) : Option Int32 :=
  some (0 : Int32)
noncomputable def m_indexes_c_241 (σ : SM) (x1 : Int32) : Option Int32 :=
  (m_index σ x1 (3 : Int32)).bind fun r1 => (m_tag σ r1).bind fun r3 => if r3 = (12 : Int32) then (m_index σ x1 (3 : Int32)).bind fun r6 => (none : Option Int32) else m_indexes_c_276 σ
noncomputable def m_indexes_c_130 (σ : SM) (x1 : Int32) (x2 : Int32) : Option Int32 :=
  if x2 = (12 : Int32) then (m_index σ x1 (1 : Int32)).bind fun r14 => (m_tag σ r14).bind fun r16 => if r16 = (1 : Int32) then (m_index σ x1 (3 : Int32)).bind fun r19 => (m_tag σ r19).bind fun r21 => if r21 = (1 : Int32) then some (1 : Int32) else m_indexes_c_168 σ else m_indexes_c_168 σ else if x2 = (15 : Int32) then (m_index σ x1 (2 : Int32)).bind fun r5 => (m_tag σ r5).bind fun r7 => if r7 = 0 then m_indexes_c_227 σ else if r7 < (9 : Int32) then m_indexes_c_223 σ else if (11 : Int32) < r7 then m_indexes_c_223 σ else (m_index σ x1 (2 : Int32)).bind fun r12 => (none : Option Int32) else if x2 = (17 : Int32) then m_indexes_c_241 σ x1 else if x2 = (18 : Int32) then m_indexes_c_241 σ x1 else some (1 : Int32)
noncomputable def m_indexes_c_0 (σ : SM) (x1 : Int32) (x2 : Int32) : Option Int32 :=
  if x2 = (7 : Int32) then m_indexes_c_30 σ x1 else if x2 = (8 : Int32) then m_indexes_c_30 σ x1 else if x2 = (16 : Int32) then m_indexes_c_30 σ x1 else if x2 = (19 : Int32) then m_indexes_c_30 σ x1 else if x2 = (20 : Int32) then m_indexes_c_30 σ x1 else if x2 < (9 : Int32) then m_indexes_c_130 σ x1 x2 else if (11 : Int32) < x2 then m_indexes_c_130 σ x1 x2 else (m_index σ x1 (1 : Int32)).bind fun r8 => (m_tag σ r8).bind fun r10 => if r10 = (7 : Int32) then (m_index σ x1 (1 : Int32)).bind fun r13 => (none : Option Int32) else m_indexes_c_128 σ
noncomputable def m_indexes_c (σ : SM) (x1 : Int32) (x2 : Int32) (x3 : Int32) : Option Int32 := m_indexes_c_0 σ x1 x2
noncomputable def m_indexes_b_30 (σ : SM) (x1 : Int32) : Option Int32 :=
  (m_index σ x1 (1 : Int32)).bind fun r1 => (m_tag σ r1).bind fun r3 => if r3 = (1 : Int32) then some (1 : Int32) else some (0 : Int32)
noncomputable def m_indexes_b_128 (σ : SM) : Option Int32 :=
  some (0 : Int32)
noncomputable def m_indexes_b_168 (σ : SM) : Option Int32 :=
  some (0 : Int32)
noncomputable def m_indexes_b_223 (σ : SM) : Option Int32 :=
  some (1 : Int32)
noncomputable def m_indexes_b_227 (σ : SM) : Option Int32 :=
  some (0 : Int32)
noncomputable def m_indexes_b_276 (σ : SM) : Option Int32 :=
  some (0 : Int32)
noncomputable def m_indexes_b_241 (σ : SM) (x1 : Int32) : Option Int32 :=
  (m_index σ x1 (3 : Int32)).bind fun r1 => (m_tag σ r1).bind fun r3 => if r3 = (12 : Int32) then (m_index σ x1 (3 : Int32)).bind fun r6 => (m_indexes_c σ r6 (12 : Int32) (0 : Int32)).bind fun r8 => if r8 = 0 then m_indexes_b_276 σ else some (1 : Int32) else m_indexes_b_276 σ
noncomputable def m_indexes_b_130 (σ : SM) (x1 : Int32) (x2 : Int32) : Option Int32 :=
  if x2 = (12 : Int32) then (m_index σ x1 (1 : Int32)).bind fun r17 => (m_tag σ r17).bind fun r19 => if r19 = (1 : Int32) then (m_index σ x1 (3 : Int32)).bind fun r22 => (m_tag σ r22).bind fun r24 => if r24 = (1 : Int32) then some (1 : Int32) else m_indexes_b_168 σ else m_indexes_b_168 σ else if x2 = (15 : Int32) then (m_index σ x1 (2 : Int32)).bind fun r5 => (m_tag σ r5).bind fun r7 => if r7 = 0 then m_indexes_b_227 σ else if r7 < (9 : Int32) then m_indexes_b_223 σ else if (11 : Int32) < r7 then m_indexes_b_223 σ else (m_index σ x1 (2 : Int32)).bind fun r12 => (m_indexes_c σ r12 r7 (0 : Int32)).bind fun r14 => if r14 = 0 then m_indexes_b_227 σ else m_indexes_b_223 σ else if x2 = (17 : Int32) then m_indexes_b_241 σ x1 else if x2 = (18 : Int32) then m_indexes_b_241 σ x1 else some (1 : Int32)
noncomputable def m_indexes_b_0 (σ : SM) (x1 : Int32) (x2 : Int32) : Option Int32 :=
  if x2 = (7 : Int32) then m_indexes_b_30 σ x1 else if x2 = (8 : Int32) then m_indexes_b_30 σ x1 else if x2 = (16 : Int32) then m_indexes_b_30 σ x1 else if x2 = (19 : Int32) then m_indexes_b_30 σ x1 else if x2 = (20 : Int32) then m_indexes_b_30 σ x1 else if x2 < (9 : Int32) then m_indexes_b_130 σ x1 x2 else if (11 : Int32) < x2 then m_indexes_b_130 σ x1 x2 else (m_index σ x1 (1 : Int32)).bind fun r8 => (m_tag σ r8).bind fun r10 => if r10 = (7 : Int32) then (m_index σ x1 (1 : Int32)).bind fun r13 => (m_indexes_c σ r13 (7 : Int32) (0 : Int32)).bind fun r15 => if r15 = 0 then m_indexes_b_128 σ else (m_index σ x1 (3 : Int32)).bind fun r18 => (m_tag σ r18).bind fun r20 => if r20 = (12 : Int32) then (m_index σ x1 (3 : Int32)).bind fun r23 => (m_indexes_c σ r23 (12 : Int32) (0 : Int32)).bind fun r25 => if r25 = 0 then m_indexes_b_128 σ else some (1 : Int32) else m_indexes_b_128 σ else m_indexes_b_128 σ
noncomputable def m_indexes_b (σ : SM) (x1 : Int32) (x2 : Int32) (x3 : Int32) : Option Int32 := m_indexes_b_0 σ x1 x2
noncomputable def m_indexes_30 (σ : SM) (x1 : Int32) : Option Int32 :=
  (m_index σ x1 (1 : Int32)).bind fun r1 => (m_tag σ r1).bind fun r3 => if r3 = (1 : Int32) then some (1 : Int32) else some (0 : Int32)
noncomputable def m_indexes_128 (σ : SM) : Option Int32 :=
  some (0 : Int32)
noncomputable def m_indexes_168 (σ : SM) : Option Int32 :=
  some (0 : Int32)
noncomputable def m_indexes_223 (σ : SM) : Option Int32 :=
  some (1 : Int32)
noncomputable def m_indexes_227 (σ : SM) : Option Int32 :=
  some (0 : Int32)
noncomputable def m_indexes_276 (σ : SM) : Option Int32 :=
  some (0 : Int32)
noncomputable def m_indexes_241 (σ : SM) (x1 : Int32) : Option Int32 :=
  (m_index σ x1 (3 : Int32)).bind fun r1 => (m_tag σ r1).bind fun r3 => if r3 = (12 : Int32) then (m_index σ x1 (3 : Int32)).bind fun r6 => (m_indexes_b σ r6 (12 : Int32) (0 : Int32)).bind fun r8 => if r8 = 0 then m_indexes_276 σ else some (1 : Int32) else m_indexes_276 σ
noncomputable def m_indexes_130 (σ : SM) (x1 : Int32) (x2 : Int32) : Option Int32 :=
  if x2 = (12 : Int32) then (m_index σ x1 (1 : Int32)).bind fun r17 => (m_tag σ r17).bind fun r19 => if r19 = (1 : Int32) then (m_index σ x1 (3 : Int32)).bind fun r22 => (m_tag σ r22).bind fun r24 => if r24 = (1 : Int32) then some (1 : Int32) else m_indexes_168 σ else m_indexes_168 σ else if x2 = (15 : Int32) then (m_index σ x1 (2 : Int32)).bind fun r5 => (m_tag σ r5).bind fun r7 => if r7 = 0 then m_indexes_227 σ else if r7 < (9 : Int32) then m_indexes_223 σ else if (11 : Int32) < r7 then m_indexes_223 σ else (m_index σ x1 (2 : Int32)).bind fun r12 => (m_indexes_b σ r12 r7 (0 : Int32)).bind fun r14 => if r14 = 0 then m_indexes_227 σ else m_indexes_223 σ else if x2 = (17 : Int32) then m_indexes_241 σ x1 else if x2 = (18 : Int32) then m_indexes_241 σ x1 else some (1 : Int32)
noncomputable def m_indexes_0 (σ : SM) (x1 : Int32) (x2 : Int32) : Option Int32 :=
  if x2 = (7 : Int32) then m_indexes_30 σ x1 else if x2 = (8 : Int32) then m_indexes_30 σ x1 else if x2 = (16 : Int32) then m_indexes_30 σ x1 else if x2 = (19 : Int32) then m_indexes_30 σ x1 else if x2 = (20 : Int32) then m_indexes_30 σ x1 else if x2 < (9 : Int32) then m_indexes_130 σ x1 x2 else if (11 : Int32) < x2 then m_indexes_130 σ x1 x2 else (m_index σ x1 (1 : Int32)).bind fun r8 => (m_tag σ r8).bind fun r10 => if r10 = (7 : Int32) then (m_index σ x1 (1 : Int32)).bind fun r13 => (m_indexes_b σ r13 (7 : Int32) (0 : Int32)).bind fun r15 => if r15 = 0 then m_indexes_128 σ else (m_index σ x1 (3 : Int32)).bind fun r18 => (m_tag σ r18).bind fun r20 => if r20 = (12 : Int32) then (m_index σ x1 (3 : Int32)).bind fun r23 => (m_indexes_b σ r23 (12 : Int32) (0 : Int32)).bind fun r25 => if r25 = 0 then m_indexes_128 σ else some (1 : Int32) else m_indexes_128 σ else m_indexes_128 σ
noncomputable def m_indexes (σ : SM) (x1 : Int32) (x2 : Int32) (x3 : Int32) : Option Int32 := m_indexes_0 σ x1 x2
noncomputable def m_symOf_0 (σ : SM) (x1 : Int32) : Option Int32 :=
  ckIn ((σ.1 51) + x1) 65540 (some (σ.2 22 ((σ.1 51) + x1).toNatClampNeg))
noncomputable def m_symOf (σ : SM) (x1 : Int32) : Option Int32 := m_symOf_0 σ x1
noncomputable def m_length_0 (σ : SM) (x1 : Int32) : Option Int32 :=
  ckIn x1 24000 (some (σ.2 5 x1.toNatClampNeg))
noncomputable def m_length (σ : SM) (x1 : Int32) : Option Int32 := m_length_0 σ x1
noncomputable def m_at_0 (σ : SM) (x1 : Int32) (x2 : Int32) : Option Int32 :=
  ckIn x1 24000 (ckIn ((σ.2 4 x1.toNatClampNeg) + x2) 66000 (ckN .char (σ.2 1 ((σ.2 4 x1.toNatClampNeg) + x2).toNatClampNeg) (some (σ.2 1 ((σ.2 4 x1.toNatClampNeg) + x2).toNatClampNeg))))
noncomputable def m_at (σ : SM) (x1 : Int32) (x2 : Int32) : Option Int32 := m_at_0 σ x1 x2
noncomputable def m_nameText_79 (fu : Nat) (σ : SM) (k8 : Int32 → Int32 → Int32 → Int32 → Option Int32) (x1 : Int32) (x3 : Int32) (x4 : Int32) (x5 : Int32) : Option Int32 :=
  nx (x5 + (1 : Int32)) fun y1 => k8 x1 x3 x4 y1
noncomputable def m_nameText_32 (fu : Nat) (σ : SM) (k8 : Int32 → Int32 → Int32 → Int32 → Option Int32) (x1 : Int32) (x3 : Int32) (x4 : Int32) (x5 : Int32) (t0 : Int32) : Option Int32 :=
  if t0 = (46 : Int32) then some (0 : Int32) else if t0 = (59 : Int32) then some (0 : Int32) else if t0 = (91 : Int32) then some (0 : Int32) else if t0 = (47 : Int32) then if x5 = (x4 + (1 : Int32)) then some (0 : Int32) else m_nameText_79 fu σ k8 x1 x3 x5 x5 else m_nameText_79 fu σ k8 x1 x3 x4 x5
noncomputable def m_nameText_8 (fu : Nat) (σ : SM) (k8 : Int32 → Int32 → Int32 → Int32 → Option Int32) (x1 : Int32) (x3 : Int32) (x4 : Int32) (x5 : Int32) : Option Int32 :=
  if x3 < x5 then some (1 : Int32) else if x3 ≤ x5 then m_nameText_32 fu σ k8 x1 x3 x4 x5 (47 : Int32) else (m_at σ x1 x5).bind fun r3 => m_nameText_32 fu σ k8 x1 x3 x4 x5 r3
noncomputable def m_nameText_8L (fu : Nat) (σ : SM) (n : Nat) : Int32 → Int32 → Int32 → Int32 → Option Int32 := lpF (F := Int32 → Int32 → Int32 → Int32 → Option Int32) (fun _ _ _ _ => none) (fun k => m_nameText_8 fu σ k) n
noncomputable def m_nameText_0 (fu : Nat) (σ : SM) (x1 : Int32) (x2 : Int32) (x3 : Int32) : Option Int32 :=
  nx (x2 - (1 : Int32)) fun y1 => m_nameText_8L fu σ fu x1 x3 y1 x2
noncomputable def m_nameText (fu : Nat) (σ : SM) (x1 : Int32) (x2 : Int32) (x3 : Int32) : Option Int32 := m_nameText_0 fu σ x1 x2 x3
noncomputable def m_fieldText_116 (fu : Nat) (σ : SM) (x4 : Int32) : Option Int32 :=
  some (x4 + (1 : Int32))
noncomputable def m_fieldText_187 (fu : Nat) (σ : SM) : Option Int32 :=
  some (-1 : Int32)
noncomputable def m_fieldText_160 (fu : Nat) (σ : SM) (x1 : Int32) (x3 : Int32) (x4 : Int32) (x6 : Int32) : Option Int32 :=
  if x3 ≤ x6 then m_fieldText_187 fu σ else (m_nameText fu σ x1 (x4 + (1 : Int32)) x6).bind fun r2 => if r2 = 0 then m_fieldText_187 fu σ else some (x6 + (1 : Int32))
noncomputable def m_fieldText_136 (fu : Nat) (σ : SM) (k136 : Int32 → Int32 → Int32 → Int32 → Option Int32) (x1 : Int32) (x3 : Int32) (x4 : Int32) (x6 : Int32) : Option Int32 :=
  if x3 ≤ x6 then m_fieldText_160 fu σ x1 x3 x4 x6 else (m_at σ x1 x6).bind fun r2 => if r2 = (59 : Int32) then m_fieldText_160 fu σ x1 x3 x4 x6 else nx (x6 + (1 : Int32)) fun y5 => k136 x1 x3 x4 y5
noncomputable def m_fieldText_136L (fu : Nat) (σ : SM) (n : Nat) : Int32 → Int32 → Int32 → Int32 → Option Int32 := lpF (F := Int32 → Int32 → Int32 → Int32 → Option Int32) (fun _ _ _ _ => none) (fun k => m_fieldText_136 fu σ k) n
noncomputable def m_fieldText_33 (fu : Nat) (σ : SM) (x1 : Int32) (x2 : Int32) (x3 : Int32) (x4 : Int32) : Option Int32 :=
  if (255 : Int32) < (x4 - x2) then some (-1 : Int32) else if x4 < x3 then (m_at σ x1 x4).bind fun r3 => if r3 = (66 : Int32) then m_fieldText_116 fu σ x4 else if r3 = (67 : Int32) then m_fieldText_116 fu σ x4 else if r3 = (68 : Int32) then m_fieldText_116 fu σ x4 else if r3 = (70 : Int32) then m_fieldText_116 fu σ x4 else if r3 = (73 : Int32) then m_fieldText_116 fu σ x4 else if r3 = (74 : Int32) then m_fieldText_116 fu σ x4 else if r3 = (83 : Int32) then m_fieldText_116 fu σ x4 else if r3 = (90 : Int32) then m_fieldText_116 fu σ x4 else if r3 = (76 : Int32) then nx (x4 + (1 : Int32)) fun y14 => m_fieldText_136L fu σ fu x1 x3 x4 y14 else some (-1 : Int32) else some (-1 : Int32)
noncomputable def m_fieldText_9 (fu : Nat) (σ : SM) (k9 : Int32 → Int32 → Int32 → Int32 → Option Int32) (x1 : Int32) (x2 : Int32) (x3 : Int32) (x4 : Int32) : Option Int32 :=
  if x3 ≤ x4 then m_fieldText_33 fu σ x1 x2 x3 x4 else (m_at σ x1 x4).bind fun r2 => if r2 = (91 : Int32) then nx (x4 + (1 : Int32)) fun y5 => k9 x1 x2 x3 y5 else m_fieldText_33 fu σ x1 x2 x3 x4
noncomputable def m_fieldText_9L (fu : Nat) (σ : SM) (n : Nat) : Int32 → Int32 → Int32 → Int32 → Option Int32 := lpF (F := Int32 → Int32 → Int32 → Int32 → Option Int32) (fun _ _ _ _ => none) (fun k => m_fieldText_9 fu σ k) n
noncomputable def m_fieldText_0 (fu : Nat) (σ : SM) (x1 : Int32) (x2 : Int32) : Option Int32 :=
  (m_length σ x1).bind fun r1 => m_fieldText_9L fu σ fu x1 x2 r1 x2
noncomputable def m_fieldText (fu : Nat) (σ : SM) (x1 : Int32) (x2 : Int32) : Option Int32 := m_fieldText_0 fu σ x1 x2
noncomputable def m_classText_41 (fu : Nat) (σ : SM) (x1 : Int32) : Option Int32 :=
  (m_length σ x1).bind fun r1 => (m_nameText fu σ x1 (0 : Int32) r1).bind fun r3 => ckN .boolean r3 (some r3)
noncomputable def m_classText_0 (fu : Nat) (σ : SM) (x1 : Int32) : Option Int32 :=
  (m_length σ x1).bind fun r1 => if r1 ≤ 0 then m_classText_41 fu σ x1 else (m_at σ x1 (0 : Int32)).bind fun r4 => if r4 = (91 : Int32) then (m_fieldText fu σ x1 (0 : Int32)).bind fun r7 => (m_length σ x1).bind fun r9 => if r7 = r9 then some (1 : Int32) else some (0 : Int32) else m_classText_41 fu σ x1
noncomputable def m_classText (fu : Nat) (σ : SM) (x1 : Int32) : Option Int32 := m_classText_0 fu σ x1
noncomputable def m_unqualified_72 (fu : Nat) (σ : SM) (k9 : Int32 → Int32 → Int32 → Int32 → Option Int32) (x1 : Int32) (x2 : Int32) (x3 : Int32) (x4 : Int32) : Option Int32 :=
  nx (x4 + (1 : Int32)) fun y1 => k9 x1 x2 x3 y1
noncomputable def m_unqualified_9 (fu : Nat) (σ : SM) (k9 : Int32 → Int32 → Int32 → Int32 → Option Int32) (x1 : Int32) (x2 : Int32) (x3 : Int32) (x4 : Int32) : Option Int32 :=
  if x3 ≤ x4 then if x3 ≤ 0 then some (0 : Int32) else some (1 : Int32) else (m_at σ x1 x4).bind fun r3 => if r3 = (46 : Int32) then some (0 : Int32) else if r3 = (59 : Int32) then some (0 : Int32) else if r3 = (91 : Int32) then some (0 : Int32) else if r3 = (47 : Int32) then some (0 : Int32) else if x2 = 0 then if r3 = (60 : Int32) then some (0 : Int32) else if r3 = (62 : Int32) then some (0 : Int32) else m_unqualified_72 fu σ k9 x1 x2 x3 x4 else m_unqualified_72 fu σ k9 x1 x2 x3 x4
noncomputable def m_unqualified_9L (fu : Nat) (σ : SM) (n : Nat) : Int32 → Int32 → Int32 → Int32 → Option Int32 := lpF (F := Int32 → Int32 → Int32 → Int32 → Option Int32) (fun _ _ _ _ => none) (fun k => m_unqualified_9 fu σ k) n
noncomputable def m_unqualified_0 (fu : Nat) (σ : SM) (x1 : Int32) (x2 : Int32) : Option Int32 :=
  (m_length σ x1).bind fun r1 => m_unqualified_9L fu σ fu x1 x2 r1 (0 : Int32)
noncomputable def m_unqualified (fu : Nat) (σ : SM) (x1 : Int32) (x2 : Int32) : Option Int32 := m_unqualified_0 fu σ x1 x2
noncomputable def m_isField_0 (fu : Nat) (σ : SM) (x1 : Int32) : Option Int32 :=
  (m_fieldText fu σ x1 (0 : Int32)).bind fun r1 => (m_length σ x1).bind fun r3 => if r1 = r3 then some (1 : Int32) else some (0 : Int32)
noncomputable def m_isField (fu : Nat) (σ : SM) (x1 : Int32) : Option Int32 := m_isField_0 fu σ x1
noncomputable def m_places0_43 (fu : Nat) (σ : SM) (k4 : Int32 → Int32 → Int32 → Option Int32) (x1 : Int32) (x2 : Int32) (t0 : Int32) (t1 : Int32) : Option Int32 :=
  nx (t1 + t0) fun y1 => (m_fieldText fu σ x1 x2).bind fun r2 => k4 x1 r2 y1
noncomputable def m_places0_38 (fu : Nat) (σ : SM) (k4 : Int32 → Int32 → Int32 → Option Int32) (x1 : Int32) (x2 : Int32) (t0 : Int32) : Option Int32 :=
  m_places0_43 fu σ k4 x1 x2 (2 : Int32) t0
noncomputable def m_places0_4 (fu : Nat) (σ : SM) (k4 : Int32 → Int32 → Int32 → Option Int32) (x1 : Int32) (x2 : Int32) (x3 : Int32) : Option Int32 :=
  (m_at σ x1 x2).bind fun r1 => if r1 = (41 : Int32) then some x3 else (m_at σ x1 x2).bind fun r4 => if r4 = (74 : Int32) then m_places0_38 fu σ k4 x1 x2 x3 else if r4 = (68 : Int32) then m_places0_38 fu σ k4 x1 x2 x3 else m_places0_43 fu σ k4 x1 x2 (1 : Int32) x3
noncomputable def m_places0_4L (fu : Nat) (σ : SM) (n : Nat) : Int32 → Int32 → Int32 → Option Int32 := lpF (F := Int32 → Int32 → Int32 → Option Int32) (fun _ _ _ => none) (fun k => m_places0_4 fu σ k) n
noncomputable def m_places0_0 (fu : Nat) (σ : SM) (x1 : Int32) : Option Int32 :=
  m_places0_4L fu σ fu x1 (1 : Int32) (0 : Int32)
noncomputable def m_places0 (fu : Nat) (σ : SM) (x1 : Int32) : Option Int32 := m_places0_0 fu σ x1
noncomputable def m_isMethod_94 (fu : Nat) (σ : SM) (x1 : Int32) : Option Int32 :=
  (m_places0 fu σ x1).bind fun r1 => if (255 : Int32) < r1 then some (0 : Int32) else some (1 : Int32)
noncomputable def m_isMethod_82 (fu : Nat) (σ : SM) (x1 : Int32) (x2 : Int32) (x3 : Int32) : Option Int32 :=
  (m_fieldText fu σ x1 x3).bind fun r1 => if r1 = x2 then m_isMethod_94 fu σ x1 else some (0 : Int32)
noncomputable def m_isMethod_54 (fu : Nat) (σ : SM) (x1 : Int32) (x2 : Int32) (x3 : Int32) : Option Int32 :=
  if x3 < x2 then nx (x3 + (1 : Int32)) fun y2 => if (y2 + (1 : Int32)) = x2 then (m_at σ x1 y2).bind fun r4 => if r4 = (86 : Int32) then m_isMethod_94 fu σ x1 else m_isMethod_82 fu σ x1 x2 y2 else m_isMethod_82 fu σ x1 x2 y2 else some (0 : Int32)
noncomputable def m_isMethod_25 (fu : Nat) (σ : SM) (k25 : Int32 → Int32 → Int32 → Option Int32) (x1 : Int32) (x2 : Int32) (x3 : Int32) : Option Int32 :=
  if x2 ≤ x3 then m_isMethod_54 fu σ x1 x2 x3 else (m_at σ x1 x3).bind fun r2 => if r2 = (41 : Int32) then m_isMethod_54 fu σ x1 x2 x3 else (m_fieldText fu σ x1 x3).bind fun r5 => if 0 ≤ r5 then k25 x1 x2 r5 else some (0 : Int32)
noncomputable def m_isMethod_25L (fu : Nat) (σ : SM) (n : Nat) : Int32 → Int32 → Int32 → Option Int32 := lpF (F := Int32 → Int32 → Int32 → Option Int32) (fun _ _ _ => none) (fun k => m_isMethod_25 fu σ k) n
noncomputable def m_isMethod_0 (fu : Nat) (σ : SM) (x1 : Int32) : Option Int32 :=
  (m_length σ x1).bind fun r1 => if r1 = 0 then some (0 : Int32) else (m_at σ x1 (0 : Int32)).bind fun r4 => if r4 = (40 : Int32) then m_isMethod_25L fu σ fu x1 r1 (1 : Int32) else some (0 : Int32)
noncomputable def m_isMethod (fu : Nat) (σ : SM) (x1 : Int32) : Option Int32 := m_isMethod_0 fu σ x1
noncomputable def m_angles_2 (fu : Nat) (σ : SM) (k2 : Int32 → Int32 → Option Int32) (x1 : Int32) (x2 : Int32) : Option Int32 :=
  (m_length σ x1).bind fun r1 => if r1 ≤ x2 then some (0 : Int32) else (m_at σ x1 x2).bind fun r4 => if r4 = (60 : Int32) then some (1 : Int32) else (m_at σ x1 x2).bind fun r7 => if r7 = (62 : Int32) then some (1 : Int32) else nx (x2 + (1 : Int32)) fun y10 => k2 x1 y10
noncomputable def m_angles_2L (fu : Nat) (σ : SM) (n : Nat) : Int32 → Int32 → Option Int32 := lpF (F := Int32 → Int32 → Option Int32) (fun _ _ => none) (fun k => m_angles_2 fu σ k) n
noncomputable def m_angles_0 (fu : Nat) (σ : SM) (x1 : Int32) : Option Int32 :=
  m_angles_2L fu σ fu x1 (0 : Int32)
noncomputable def m_angles (fu : Nat) (σ : SM) (x1 : Int32) : Option Int32 := m_angles_0 fu σ x1
noncomputable def m_endsV_38 (σ : SM) : Option Int32 :=
  some (0 : Int32)
noncomputable def m_endsV_0 (σ : SM) (x1 : Int32) : Option Int32 :=
  (m_length σ x1).bind fun r1 => (m_at σ x1 (r1 - (1 : Int32))).bind fun r3 => if r3 = (86 : Int32) then (m_length σ x1).bind fun r6 => (m_at σ x1 (r6 - (2 : Int32))).bind fun r8 => if r8 = (41 : Int32) then some (1 : Int32) else m_endsV_38 σ else m_endsV_38 σ
noncomputable def m_endsV (σ : SM) (x1 : Int32) : Option Int32 := m_endsV_0 σ x1
noncomputable def m_handleEntry_167 (σ : SM) (t0 : Int32) (t1 : Int32) : Option Int32 :=
  if t1 = t0 then some (1 : Int32) else some (0 : Int32)
noncomputable def m_handleEntry_153 (σ : SM) (x5 : Int32) (t0 : Int32) : Option Int32 :=
  if x5 = (σ.1 9) then m_handleEntry_167 σ (1 : Int32) t0 else m_handleEntry_167 σ (0 : Int32) t0
noncomputable def m_handleEntry_125 (σ : SM) (x2 : Int32) (x3 : Int32) : Option Int32 :=
  (m_index σ x3 (3 : Int32)).bind fun r1 => (m_index σ r1 (1 : Int32)).bind fun r3 => (m_symOf σ r3).bind fun r5 => if x2 = (8 : Int32) then m_handleEntry_153 σ r5 (1 : Int32) else m_handleEntry_153 σ r5 (0 : Int32)
noncomputable def m_handleEntry_74 (σ : SM) (x2 : Int32) (x3 : Int32) (x4 : Int32) : Option Int32 :=
  if x4 = (10 : Int32) then m_handleEntry_125 σ x2 x3 else some (0 : Int32)
noncomputable def m_handleEntry_0 (σ : SM) (x1 : Int32) : Option Int32 :=
  ckIn ((σ.1 51) + x1) 65540 ((m_u1 σ ((σ.2 21 ((σ.1 51) + x1).toNatClampNeg) + (1 : Int32))).bind fun r2 => (m_index σ x1 (2 : Int32)).bind fun r4 => (m_tag σ r4).bind fun r6 => if r2 < (1 : Int32) then some (0 : Int32) else if r2 ≤ (9 : Int32) then if (4 : Int32) < r2 then if r2 = (5 : Int32) then m_handleEntry_74 σ r2 r4 r6 else if r2 = (8 : Int32) then m_handleEntry_74 σ r2 r4 r6 else if r2 = (9 : Int32) then if r6 = (11 : Int32) then m_handleEntry_125 σ r2 r4 else some (0 : Int32) else if r6 = (10 : Int32) then m_handleEntry_125 σ r2 r4 else if r6 = (11 : Int32) then if (52 : Int32) ≤ (σ.1 53) then m_handleEntry_125 σ r2 r4 else some (0 : Int32) else some (0 : Int32) else if r6 = (9 : Int32) then some (1 : Int32) else some (0 : Int32) else some (0 : Int32))
noncomputable def m_handleEntry (σ : SM) (x1 : Int32) : Option Int32 := m_handleEntry_0 σ x1
noncomputable def m_checkPool_420 (fu : Nat) (k2 : SM → Int32 → Option (Int32 × SM)) (σ : SM) (x1 : Int32) : Option (Int32 × SM) :=
  nx (x1 + (1 : Int32)) fun y1 => k2 σ y1
noncomputable def m_checkPool_142 (fu : Nat) (σ : SM) (x2 : Int32) : Option (Int32 × SM) :=
  (m_wrong σ (11 : Int32) x2).bind fun r1 => ckN .boolean r1.1 (some (r1.1, r1.2))
noncomputable def m_checkPool_412 (fu : Nat) (σ : SM) (x2 : Int32) : Option (Int32 × SM) :=
  (m_wrong σ (14 : Int32) x2).bind fun r1 => ckN .boolean r1.1 (some (r1.1, r1.2))
noncomputable def m_checkPool_342 (fu : Nat) (k2 : SM → Int32 → Option (Int32 × SM)) (σ : SM) (x1 : Int32) (x2 : Int32) (x3 : Int32) : Option (Int32 × SM) :=
  (m_index σ x1 (3 : Int32)).bind fun r1 => (m_index σ r1 (1 : Int32)).bind fun r3 => (m_symOf σ r3).bind fun r5 => (m_index σ x1 (3 : Int32)).bind fun r7 => (m_index σ r7 (3 : Int32)).bind fun r9 => (m_symOf σ r9).bind fun r11 => (m_angles fu σ r5).bind fun r13 => if r13 = 0 then if x3 = (17 : Int32) then (m_isField fu σ r11).bind fun r20 => if r20 = 0 then m_checkPool_412 fu σ x2 else m_checkPool_420 fu k2 σ x1 else (m_isMethod fu σ r11).bind fun r17 => if r17 = 0 then m_checkPool_412 fu σ x2 else m_checkPool_420 fu k2 σ x1 else m_checkPool_412 fu σ x2
noncomputable def m_checkPool_330 (fu : Nat) (k2 : SM → Int32 → Option (Int32 × SM)) (σ : SM) (x1 : Int32) (x2 : Int32) (x3 : Int32) : Option (Int32 × SM) :=
  if x3 = (17 : Int32) then m_checkPool_342 fu k2 σ x1 x2 x3 else if x3 = (18 : Int32) then m_checkPool_342 fu k2 σ x1 x2 x3 else m_checkPool_420 fu k2 σ x1
noncomputable def m_checkPool_299 (fu : Nat) (k2 : SM → Int32 → Option (Int32 × SM)) (σ : SM) (x1 : Int32) (x2 : Int32) (x3 : Int32) : Option (Int32 × SM) :=
  if x3 = (16 : Int32) then (m_index σ x1 (1 : Int32)).bind fun r2 => (m_symOf σ r2).bind fun r4 => (m_isMethod fu σ r4).bind fun r6 => if r6 = 0 then (m_wrong σ (14 : Int32) x2).bind fun r9 => ckN .boolean r9.1 (some (r9.1, r9.2)) else m_checkPool_330 fu k2 σ x1 x2 x3 else m_checkPool_330 fu k2 σ x1 x2 x3
noncomputable def m_checkPool_277 (fu : Nat) (k2 : SM → Int32 → Option (Int32 × SM)) (σ : SM) (x1 : Int32) (x2 : Int32) (x3 : Int32) : Option (Int32 × SM) :=
  if x3 = (15 : Int32) then (m_handleEntry σ x1).bind fun r2 => if r2 = 0 then (m_wrong σ (13 : Int32) x2).bind fun r5 => ckN .boolean r5.1 (some (r5.1, r5.2)) else m_checkPool_299 fu k2 σ x1 x2 x3 else m_checkPool_299 fu k2 σ x1 x2 x3
noncomputable def m_checkPool_262 (fu : Nat) (k2 : SM → Int32 → Option (Int32 × SM)) (σ : SM) (x1 : Int32) (x2 : Int32) (x3 : Int32) (t0 : Int32) : Option (Int32 × SM) :=
  if t0 = 0 then (m_wrong σ (12 : Int32) x2).bind fun r2 => ckN .boolean r2.1 (some (r2.1, r2.2)) else m_checkPool_277 fu k2 σ x1 x2 x3
noncomputable def m_checkPool_257 (fu : Nat) (k2 : SM → Int32 → Option (Int32 × SM)) (σ : SM) (x1 : Int32) (x2 : Int32) (x3 : Int32) : Option (Int32 × SM) :=
  m_checkPool_262 fu k2 σ x1 x2 x3 (1 : Int32)
noncomputable def m_checkPool_261 (fu : Nat) (k2 : SM → Int32 → Option (Int32 × SM)) (σ : SM) (x1 : Int32) (x2 : Int32) (x3 : Int32) : Option (Int32 × SM) :=
  m_checkPool_262 fu k2 σ x1 x2 x3 (0 : Int32)
noncomputable def m_checkPool_150 (fu : Nat) (k2 : SM → Int32 → Option (Int32 × SM)) (σ : SM) (x1 : Int32) (x2 : Int32) (x3 : Int32) : Option (Int32 × SM) :=
  if x3 < (9 : Int32) then m_checkPool_277 fu k2 σ x1 x2 x3 else if (11 : Int32) < x3 then m_checkPool_277 fu k2 σ x1 x2 x3 else (m_index σ x1 (3 : Int32)).bind fun r3 => (m_index σ r3 (1 : Int32)).bind fun r5 => (m_symOf σ r5).bind fun r7 => (m_index σ x1 (3 : Int32)).bind fun r9 => (m_index σ r9 (3 : Int32)).bind fun r11 => (m_symOf σ r11).bind fun r13 => (m_angles fu σ r7).bind fun r15 => if x3 = (9 : Int32) then (m_isField fu σ r13).bind fun r27 => m_checkPool_262 fu k2 σ x1 x2 x3 r27 else (m_isMethod fu σ r13).bind fun r18 => if r18 = 0 then m_checkPool_261 fu k2 σ x1 x2 x3 else if r15 = 0 then m_checkPool_257 fu k2 σ x1 x2 x3 else if x3 = (10 : Int32) then if r7 = (σ.1 9) then (m_endsV σ r13).bind fun r24 => if r24 = 0 then m_checkPool_261 fu k2 σ x1 x2 x3 else m_checkPool_257 fu k2 σ x1 x2 x3 else m_checkPool_261 fu k2 σ x1 x2 x3 else m_checkPool_261 fu k2 σ x1 x2 x3
noncomputable def m_checkPool_84 (fu : Nat) (k2 : SM → Int32 → Option (Int32 × SM)) (σ : SM) (x1 : Int32) (x2 : Int32) (x3 : Int32) : Option (Int32 × SM) :=
  if x3 = (12 : Int32) then (m_index σ x1 (1 : Int32)).bind fun r2 => (m_symOf σ r2).bind fun r4 => (m_unqualified fu σ r4 (1 : Int32)).bind fun r6 => if r6 = 0 then m_checkPool_142 fu σ x2 else (m_index σ x1 (3 : Int32)).bind fun r9 => (m_symOf σ r9).bind fun r11 => (m_isField fu σ r11).bind fun r13 => if r13 = 0 then (m_index σ x1 (3 : Int32)).bind fun r16 => (m_symOf σ r16).bind fun r18 => (m_isMethod fu σ r18).bind fun r20 => if r20 = 0 then m_checkPool_142 fu σ x2 else m_checkPool_150 fu k2 σ x1 x2 x3 else m_checkPool_150 fu k2 σ x1 x2 x3 else m_checkPool_150 fu k2 σ x1 x2 x3
noncomputable def m_checkPool_2 (fu : Nat) (k2 : SM → Int32 → Option (Int32 × SM)) (σ : SM) (x1 : Int32) : Option (Int32 × SM) :=
  if (σ.1 52) ≤ x1 then some ((1 : Int32), σ) else ckIn ((σ.1 51) + x1) 65540 (nx (σ.2 21 ((σ.1 51) + x1).toNatClampNeg) fun y3 => if 0 ≤ y3 then (m_u1 σ y3).bind fun r5 => (m_indexes σ x1 r5 (1 : Int32)).bind fun r7 => if r7 = 0 then (m_wrong σ (9 : Int32) y3).bind fun r21 => ckN .boolean r21.1 (some (r21.1, r21.2)) else if r5 = (7 : Int32) then (m_index σ x1 (1 : Int32)).bind fun r11 => (m_symOf σ r11).bind fun r13 => (m_classText fu σ r13).bind fun r15 => if r15 = 0 then (m_wrong σ (10 : Int32) y3).bind fun r18 => ckN .boolean r18.1 (some (r18.1, r18.2)) else m_checkPool_84 fu k2 σ x1 y3 r5 else m_checkPool_84 fu k2 σ x1 y3 r5 else m_checkPool_420 fu k2 σ x1)
noncomputable def m_checkPool_2L (fu : Nat) (n : Nat) : SM → Int32 → Option (Int32 × SM) := lpF (F := SM → Int32 → Option (Int32 × SM)) (fun _ _ => none) (fun k => m_checkPool_2 fu k) n
noncomputable def m_checkPool_0 (fu : Nat) (σ : SM) : Option (Int32 × SM) :=
  m_checkPool_2L fu fu σ (1 : Int32)
noncomputable def m_checkPool (fu : Nat) (σ : SM) : Option (Int32 × SM) := m_checkPool_0 fu σ
noncomputable def m_className_0 (σ : SM) (x1 : Int32) : Option Int32 :=
  (m_index σ x1 (1 : Int32)).bind fun r1 => (m_symOf σ r1).bind fun r3 => some r3
noncomputable def m_className (σ : SM) (x1 : Int32) : Option Int32 := m_className_0 σ x1
noncomputable def m_plainClass_29 (σ : SM) : Option Int32 :=
  some (0 : Int32)
noncomputable def m_plainClass_0 (σ : SM) (x1 : Int32) : Option Int32 :=
  (m_tag σ x1).bind fun r1 => if r1 = (7 : Int32) then (m_className σ x1).bind fun r4 => (m_at σ r4 (0 : Int32)).bind fun r6 => if r6 = (91 : Int32) then m_plainClass_29 σ else some (1 : Int32) else m_plainClass_29 σ
noncomputable def m_plainClass (σ : SM) (x1 : Int32) : Option Int32 := m_plainClass_0 σ x1
noncomputable def m_checkClass_110 (fu : Nat) (σ : SM) : Option (Int32 × SM) :=
  (m_wrong σ (15 : Int32) (σ.1 54)).bind fun r1 => ckN .boolean r1.1 (some (r1.1, r1.2))
noncomputable def m_checkClass_82 (fu : Nat) (σ : SM) (x1 : Int32) (x2 : Int32) : Option (Int32 × SM) :=
  if x2 = 0 then m_checkClass_110 fu σ else if (x1 &&& (32768 : Int32)) = 0 then if (x1 &&& (1024 : Int32)) = 0 then m_checkClass_110 fu σ else if (x1 &&& (16400 : Int32)) = 0 then m_checkClass_110 fu σ else m_checkClass_110 fu σ else m_checkClass_110 fu σ
noncomputable def m_checkClass_204 (fu : Nat) (σ : SM) : Option (Int32 × SM) :=
  (m_wrong σ (17 : Int32) ((σ.1 54) + (4 : Int32))).bind fun r1 => ckN .boolean r1.1 (some (r1.1, r1.2))
noncomputable def m_checkClass_288 (fu : Nat) (k242 : SM → Int32 → Int32 → Option (Int32 × SM)) (k288 : SM → Int32 → Int32 → Int32 → Int32 → Option (Int32 × SM)) (σ : SM) (x4 : Int32) (x5 : Int32) (x6 : Int32) (x7 : Int32) : Option (Int32 × SM) :=
  if x5 ≤ x7 then nx (x5 + (1 : Int32)) fun y2 => k242 σ x4 y2 else (m_u2 σ (((σ.1 54) + (8 : Int32)) + ((2 : Int32) * x7))).bind fun r3 => (m_className σ r3).bind fun r5 => (m_u2 σ x6).bind fun r7 => (m_className σ r7).bind fun r9 => if r5 = r9 then (m_wrong σ (18 : Int32) x6).bind fun r13 => ckN .boolean r13.1 (some (r13.1, r13.2)) else nx (x7 + (1 : Int32)) fun y12 => k288 σ x4 x5 x6 y12
noncomputable def m_checkClass_288L (fu : Nat) (k242 : SM → Int32 → Int32 → Option (Int32 × SM)) (n : Nat) : SM → Int32 → Int32 → Int32 → Int32 → Option (Int32 × SM) := lpF (F := SM → Int32 → Int32 → Int32 → Int32 → Option (Int32 × SM)) (fun _ _ _ _ _ => none) (fun k => m_checkClass_288 fu k242 k) n
noncomputable def m_checkClass_242 (fu : Nat) (k242 : SM → Int32 → Int32 → Option (Int32 × SM)) (σ : SM) (x4 : Int32) (x5 : Int32) : Option (Int32 × SM) :=
  if x4 ≤ x5 then nx (sf σ 61 x4) fun s2 => some ((1 : Int32), s2) else nx (((σ.1 54) + (8 : Int32)) + ((2 : Int32) * x5)) fun y3 => (m_u2 σ y3).bind fun r4 => (m_plainClass σ r4).bind fun r6 => if r6 = 0 then (m_wrong σ (18 : Int32) y3).bind fun r9 => ckN .boolean r9.1 (some (r9.1, r9.2)) else m_checkClass_288L fu k242 fu σ x4 x5 y3 (0 : Int32)
noncomputable def m_checkClass_242L (fu : Nat) (n : Nat) : SM → Int32 → Int32 → Option (Int32 × SM) := lpF (F := SM → Int32 → Int32 → Option (Int32 × SM)) (fun _ _ _ => none) (fun k => m_checkClass_242 fu k) n
noncomputable def m_checkClass_217 (fu : Nat) (σ : SM) (x3 : Int32) : Option (Int32 × SM) :=
  (m_className σ x3).bind fun r1 => nx (sf σ 60 r1) fun s3 => (m_u2 s3 ((s3.1 54) + (6 : Int32))).bind fun r4 => m_checkClass_242L fu fu s3 r4 (0 : Int32)
noncomputable def m_checkClass_121 (fu : Nat) (σ : SM) (x2 : Int32) : Option (Int32 × SM) :=
  (m_u2 σ ((σ.1 54) + (2 : Int32))).bind fun r1 => (m_plainClass σ r1).bind fun r3 => if r3 = 0 then (m_wrong σ (16 : Int32) ((σ.1 54) + (2 : Int32))).bind fun r20 => ckN .boolean r20.1 (some (r20.1, r20.2)) else (m_u2 σ ((σ.1 54) + (2 : Int32))).bind fun r6 => (m_className σ r6).bind fun r8 => nx (sf σ 59 r8) fun s10 => (m_u2 s10 ((s10.1 54) + (4 : Int32))).bind fun r11 => (m_plainClass s10 r11).bind fun r13 => if r13 = 0 then m_checkClass_204 fu s10 else if x2 = 0 then m_checkClass_217 fu s10 r11 else (m_className s10 r11).bind fun r17 => if r17 = (s10.1 11) then m_checkClass_217 fu s10 r11 else m_checkClass_204 fu s10
noncomputable def m_checkClass_27 (fu : Nat) (σ : SM) (x1 : Int32) (t0 : Int32) : Option (Int32 × SM) :=
  if (x1 &&& (32768 : Int32)) = 0 then if t0 = 0 then if (x1 &&& (8192 : Int32)) = 0 then if (x1 &&& (16 : Int32)) = 0 then m_checkClass_121 fu σ t0 else if (x1 &&& (1024 : Int32)) = 0 then m_checkClass_121 fu σ t0 else m_checkClass_82 fu σ x1 t0 else m_checkClass_82 fu σ x1 t0 else if (x1 &&& (1024 : Int32)) = 0 then m_checkClass_82 fu σ x1 t0 else if (x1 &&& (16432 : Int32)) = 0 then m_checkClass_121 fu σ t0 else m_checkClass_82 fu σ x1 t0 else m_checkClass_82 fu σ x1 t0
noncomputable def m_checkClass_0 (fu : Nat) (σ : SM) : Option (Int32 × SM) :=
  (m_u2 σ (σ.1 54)).bind fun r1 => nx (sf σ 58 r1) fun s3 => if (r1 &&& (512 : Int32)) = 0 then m_checkClass_27 fu s3 r1 (0 : Int32) else m_checkClass_27 fu s3 r1 (1 : Int32)
noncomputable def m_checkClass (fu : Nat) (σ : SM) : Option (Int32 × SM) := m_checkClass_0 fu σ
noncomputable def m_several_34 (t0 : Int32) (t1 : Int32) : Option Int32 :=
  if (t1 + t0) ≤ (1 : Int32) then some (0 : Int32) else some (1 : Int32)
noncomputable def m_several_22 (x0 : Int32) (x3 : Int32) (t0 : Int32) (t1 : Int32) : Option Int32 :=
  if (x0 &&& x3) = 0 then m_several_34 (0 : Int32) (t1 + t0) else m_several_34 (1 : Int32) (t1 + t0)
noncomputable def m_several_11 (x0 : Int32) (x2 : Int32) (x3 : Int32) (t0 : Int32) : Option Int32 :=
  if (x0 &&& x2) = 0 then m_several_22 x0 x3 (0 : Int32) t0 else m_several_22 x0 x3 (1 : Int32) t0
noncomputable def m_several_0 (x0 : Int32) (x1 : Int32) (x2 : Int32) (x3 : Int32) : Option Int32 :=
  if (x0 &&& x1) = 0 then m_several_11 x0 x2 x3 (0 : Int32) else m_several_11 x0 x2 x3 (1 : Int32)
noncomputable def m_several (x0 : Int32) (x1 : Int32) (x2 : Int32) (x3 : Int32) : Option Int32 := m_several_0 x0 x1 x2 x3
noncomputable def m_is_16 (fu : Nat) (σ : SM) (k16 : Int32 → Nat → Int32 → Option Int32) (x1 : Int32) (x2 : Nat) (x3 : Int32) : Option Int32 :=
  ckJ x2 (if (nI (lx x2)) ≤ x3 then some (1 : Int32) else (m_at σ x1 x3).bind fun r3 => ckJ x2 (ckIn x3 (lx x2) (if r3 = (cx x2 x3.toNatClampNeg) then nx (x3 + (1 : Int32)) fun y8 => k16 x1 x2 y8 else some (0 : Int32))))
noncomputable def m_is_16L (fu : Nat) (σ : SM) (n : Nat) : Int32 → Nat → Int32 → Option Int32 := lpF (F := Int32 → Nat → Int32 → Option Int32) (fun _ _ _ => none) (fun k => m_is_16 fu σ k) n
noncomputable def m_is_0 (fu : Nat) (σ : SM) (x1 : Int32) (x2 : Nat) : Option Int32 :=
  (m_length σ x1).bind fun r1 => ckJ x2 (if r1 = (nI (lx x2)) then m_is_16L fu σ fu x1 x2 (0 : Int32) else some (0 : Int32))
noncomputable def m_is (fu : Nat) (σ : SM) (x1 : Int32) (x2 : Nat) : Option Int32 := m_is_0 fu σ x1 x2
noncomputable def m_bootstraps_189 (fu : Nat) (k127 : SM → Int32 → Int32 → Int32 → Int32 → Int32 → Option (Int32 × SM)) (σ : SM) (x1 : Int32) (x3 : Int32) (x4 : Int32) (x5 : Int32) (x6 : Int32) : Option (Int32 × SM) :=
  nx (x6 + (1 : Int32)) fun y1 => k127 σ x1 x3 x4 x5 y1
noncomputable def m_bootstraps_172 (fu : Nat) (k127 : SM → Int32 → Int32 → Int32 → Int32 → Int32 → Option (Int32 × SM)) (σ : SM) (x1 : Int32) (x3 : Int32) (x4 : Int32) (x5 : Int32) (x6 : Int32) (x7 : Int32) : Option (Int32 × SM) :=
  if x7 < (15 : Int32) then some ((38 : Int32), σ) else if x7 ≤ (17 : Int32) then m_bootstraps_189 fu k127 σ x1 x3 x4 x5 x6 else some ((38 : Int32), σ)
noncomputable def m_bootstraps_127 (fu : Nat) (k100 : SM → Int32 → Int32 → Int32 → Int32 → Option (Int32 × SM)) (k127 : SM → Int32 → Int32 → Int32 → Int32 → Int32 → Option (Int32 × SM)) (σ : SM) (x1 : Int32) (x3 : Int32) (x4 : Int32) (x5 : Int32) (x6 : Int32) : Option (Int32 × SM) :=
  (m_u2 σ (x4 + (2 : Int32))).bind fun r1 => if r1 ≤ x6 then (m_u2 σ (x4 + (2 : Int32))).bind fun r4 => nx (x4 + ((4 : Int32) + ((2 : Int32) * r4))) fun y6 => nx (x5 + (1 : Int32)) fun y7 => k100 σ x1 x3 y6 y7 else (m_u2 σ ((x4 + (4 : Int32)) + ((2 : Int32) * x6))).bind fun r8 => (m_tag σ r8).bind fun r10 => if r10 < (3 : Int32) then m_bootstraps_172 fu k127 σ x1 x3 x4 x5 x6 r10 else if r10 ≤ (8 : Int32) then m_bootstraps_189 fu k127 σ x1 x3 x4 x5 x6 else m_bootstraps_172 fu k127 σ x1 x3 x4 x5 x6 r10
noncomputable def m_bootstraps_127L (fu : Nat) (k100 : SM → Int32 → Int32 → Int32 → Int32 → Option (Int32 × SM)) (n : Nat) : SM → Int32 → Int32 → Int32 → Int32 → Int32 → Option (Int32 × SM) := lpF (F := SM → Int32 → Int32 → Int32 → Int32 → Int32 → Option (Int32 × SM)) (fun _ _ _ _ _ _ => none) (fun k => m_bootstraps_127 fu k100 k) n
noncomputable def m_bootstraps_100 (fu : Nat) (k100 : SM → Int32 → Int32 → Int32 → Int32 → Option (Int32 × SM)) (σ : SM) (x1 : Int32) (x3 : Int32) (x4 : Int32) (x5 : Int32) : Option (Int32 × SM) :=
  if x3 ≤ x5 then nx (sf σ 70 x1) fun s2 => nx (sf s2 71 x3) fun s3 => some ((0 : Int32), s3) else (m_u2 σ x4).bind fun r4 => (m_tag σ r4).bind fun r6 => if r6 = (15 : Int32) then m_bootstraps_127L fu k100 fu σ x1 x3 x4 x5 (0 : Int32) else some ((38 : Int32), σ)
noncomputable def m_bootstraps_100L (fu : Nat) (n : Nat) : SM → Int32 → Int32 → Int32 → Int32 → Option (Int32 × SM) := lpF (F := SM → Int32 → Int32 → Int32 → Int32 → Option (Int32 × SM)) (fun _ _ _ _ _ => none) (fun k => m_bootstraps_100 fu k) n
noncomputable def m_bootstraps_24 (fu : Nat) (k24 : SM → Int32 → Int32 → Int32 → Int32 → Int32 → Option (Int32 × SM)) (σ : SM) (x1 : Int32) (x2 : Int32) (x3 : Int32) (x4 : Int32) (x5 : Int32) : Option (Int32 × SM) :=
  if x3 ≤ x5 then if x4 = x2 then nx (x1 + (2 : Int32)) fun y3 => m_bootstraps_100L fu fu σ x1 x3 y3 (0 : Int32) else some ((30 : Int32), σ) else if x2 < (x4 + (4 : Int32)) then some ((30 : Int32), σ) else (m_u2 σ (x4 + (2 : Int32))).bind fun r5 => if ((x4 + (4 : Int32)) + ((2 : Int32) * r5)) ≤ x2 then (m_u2 σ (x4 + (2 : Int32))).bind fun r8 => nx (x4 + ((4 : Int32) + ((2 : Int32) * r8))) fun y10 => nx (x5 + (1 : Int32)) fun y11 => k24 σ x1 x2 x3 y10 y11 else some ((30 : Int32), σ)
noncomputable def m_bootstraps_24L (fu : Nat) (n : Nat) : SM → Int32 → Int32 → Int32 → Int32 → Int32 → Option (Int32 × SM) := lpF (F := SM → Int32 → Int32 → Int32 → Int32 → Int32 → Option (Int32 × SM)) (fun _ _ _ _ _ _ => none) (fun k => m_bootstraps_24 fu k) n
noncomputable def m_bootstraps_0 (fu : Nat) (σ : SM) (x1 : Int32) (x2 : Int32) : Option (Int32 × SM) :=
  if (2 : Int32) ≤ (x2 - x1) then (m_u2 σ x1).bind fun r2 => nx (x1 + (2 : Int32)) fun y4 => m_bootstraps_24L fu fu σ x1 x2 r2 y4 (0 : Int32) else some ((30 : Int32), σ)
noncomputable def m_bootstraps (fu : Nat) (σ : SM) (x1 : Int32) (x2 : Int32) : Option (Int32 × SM) := m_bootstraps_0 fu σ x1 x2
noncomputable def m_components_58 (fu : Nat) (k24 : SM → Int32 → Int32 → Int32 → Int32 → Int32 → Option (Int32 × SM)) (k58 : SM → Int32 → Int32 → Int32 → Int32 → Int32 → Int32 → Int32 → Option (Int32 × SM)) (σ : SM) (x1 : Int32) (x2 : Int32) (x3 : Int32) (x4 : Int32) (x5 : Int32) (x6 : Int32) (x7 : Int32) : Option (Int32 × SM) :=
  if x6 ≤ x7 then nx (x5 + (1 : Int32)) fun y2 => k24 σ x1 x2 x3 x4 y2 else if x2 < (x4 + (6 : Int32)) then some ((30 : Int32), σ) else (m_u4 σ (x4 + (2 : Int32))).bind fun r4 => if (lg_cmp r4 (((x2 - x4) - (6 : Int32)).toInt64)) ≤ 0 then (m_u4 σ (x4 + (2 : Int32))).bind fun r7 => nx (x4 + ((6 : Int32) + r7.toInt32)) fun y9 => nx (x7 + (1 : Int32)) fun y10 => k58 σ x1 x2 x3 y9 x5 x6 y10 else some ((30 : Int32), σ)
noncomputable def m_components_58L (fu : Nat) (k24 : SM → Int32 → Int32 → Int32 → Int32 → Int32 → Option (Int32 × SM)) (n : Nat) : SM → Int32 → Int32 → Int32 → Int32 → Int32 → Int32 → Int32 → Option (Int32 × SM) := lpF (F := SM → Int32 → Int32 → Int32 → Int32 → Int32 → Int32 → Int32 → Option (Int32 × SM)) (fun _ _ _ _ _ _ _ _ => none) (fun k => m_components_58 fu k24 k) n
noncomputable def m_components_235 (fu : Nat) (k143 : SM → Int32 → Int32 → Int32 → Option (Int32 × SM)) (k235 : SM → Int32 → Int32 → Int32 → Int32 → Int32 → Option (Int32 × SM)) (σ : SM) (x3 : Int32) (x4 : Int32) (x5 : Int32) (x6 : Int32) (x7 : Int32) : Option (Int32 × SM) :=
  if x6 ≤ x7 then nx (x5 + (1 : Int32)) fun y2 => k143 σ x3 x4 y2 else (m_u2 σ x4).bind fun r3 => (m_tag σ r3).bind fun r5 => if r5 = (1 : Int32) then (m_u4 σ (x4 + (2 : Int32))).bind fun r8 => nx (x4 + ((6 : Int32) + r8.toInt32)) fun y10 => nx (x7 + (1 : Int32)) fun y11 => k235 σ x3 y10 x5 x6 y11 else (m_wrong σ (28 : Int32) x4).bind fun r12 => some ((-1 : Int32), r12.2)
noncomputable def m_components_235L (fu : Nat) (k143 : SM → Int32 → Int32 → Int32 → Option (Int32 × SM)) (n : Nat) : SM → Int32 → Int32 → Int32 → Int32 → Int32 → Option (Int32 × SM) := lpF (F := SM → Int32 → Int32 → Int32 → Int32 → Int32 → Option (Int32 × SM)) (fun _ _ _ _ _ _ => none) (fun k => m_components_235 fu k143 k) n
noncomputable def m_components_143 (fu : Nat) (k143 : SM → Int32 → Int32 → Int32 → Option (Int32 × SM)) (σ : SM) (x3 : Int32) (x4 : Int32) (x5 : Int32) : Option (Int32 × SM) :=
  if x3 ≤ x5 then nx (sf σ 72 x3) fun s2 => some ((0 : Int32), s2) else (m_u2 σ x4).bind fun r3 => (m_tag σ r3).bind fun r5 => if r5 = (1 : Int32) then (m_u2 σ x4).bind fun r8 => (m_symOf σ r8).bind fun r10 => (m_unqualified fu σ r10 (1 : Int32)).bind fun r12 => if r12 = 0 then some ((37 : Int32), σ) else (m_u2 σ (x4 + (2 : Int32))).bind fun r15 => (m_tag σ r15).bind fun r17 => if r17 = (1 : Int32) then (m_u2 σ (x4 + (2 : Int32))).bind fun r20 => (m_symOf σ r20).bind fun r22 => (m_isField fu σ r22).bind fun r24 => if r24 = 0 then some ((37 : Int32), σ) else (m_u2 σ (x4 + (4 : Int32))).bind fun r27 => nx (x4 + (6 : Int32)) fun y29 => m_components_235L fu k143 fu σ x3 y29 x5 r27 (0 : Int32) else some ((37 : Int32), σ) else some ((37 : Int32), σ)
noncomputable def m_components_143L (fu : Nat) (n : Nat) : SM → Int32 → Int32 → Int32 → Option (Int32 × SM) := lpF (F := SM → Int32 → Int32 → Int32 → Option (Int32 × SM)) (fun _ _ _ _ => none) (fun k => m_components_143 fu k) n
noncomputable def m_components_24 (fu : Nat) (k24 : SM → Int32 → Int32 → Int32 → Int32 → Int32 → Option (Int32 × SM)) (σ : SM) (x1 : Int32) (x2 : Int32) (x3 : Int32) (x4 : Int32) (x5 : Int32) : Option (Int32 × SM) :=
  if x3 ≤ x5 then if x4 = x2 then nx (x1 + (2 : Int32)) fun y3 => m_components_143L fu fu σ x3 y3 (0 : Int32) else some ((30 : Int32), σ) else if (x4 + (6 : Int32)) ≤ x2 then (m_u2 σ (x4 + (4 : Int32))).bind fun r5 => nx (x4 + (6 : Int32)) fun y7 => m_components_58L fu k24 fu σ x1 x2 x3 y7 x5 r5 (0 : Int32) else some ((30 : Int32), σ)
noncomputable def m_components_24L (fu : Nat) (n : Nat) : SM → Int32 → Int32 → Int32 → Int32 → Int32 → Option (Int32 × SM) := lpF (F := SM → Int32 → Int32 → Int32 → Int32 → Int32 → Option (Int32 × SM)) (fun _ _ _ _ _ _ => none) (fun k => m_components_24 fu k) n
noncomputable def m_components_0 (fu : Nat) (σ : SM) (x1 : Int32) (x2 : Int32) : Option (Int32 × SM) :=
  if (2 : Int32) ≤ (x2 - x1) then (m_u2 σ x1).bind fun r2 => nx (x1 + (2 : Int32)) fun y4 => m_components_24L fu fu σ x1 x2 r2 y4 (0 : Int32) else some ((30 : Int32), σ)
noncomputable def m_components (fu : Nat) (σ : SM) (x1 : Int32) (x2 : Int32) : Option (Int32 × SM) := m_components_0 fu σ x1 x2
noncomputable def m_attribute_b_175 (fu : Nat) (σ : SM) (x3 : Int32) (x5 : Int32) (t0 : Int32) : Option (Int32 × SM) :=
  (m_u2 σ x3).bind fun r1 => (m_tag σ r1).bind fun r3 => if r3 = t0 then (m_u2 σ x3).bind fun r6 => ckIn x5 8300 (nx (sa σ 30 x5.toNatClampNeg r6) fun s9 => some ((0 : Int32), s9)) else some ((31 : Int32), σ)
noncomputable def m_attribute_b_381 (fu : Nat) (σ : SM) (x1 : Int32) (x3 : Int32) : Option (Int32 × SM) :=
  if x1 = (9 : Int32) then (m_u2 σ x3).bind fun r2 => nx (sf σ 69 r2) fun s4 => some ((0 : Int32), s4) else some ((0 : Int32), σ)
noncomputable def m_attribute_b_366 (fu : Nat) (σ : SM) (x1 : Int32) (x3 : Int32) : Option (Int32 × SM) :=
  if x1 = (7 : Int32) then (m_u2 σ x3).bind fun r2 => nx (sf σ 68 r2) fun s4 => m_attribute_b_381 fu s4 x1 x3 else m_attribute_b_381 fu σ x1 x3
noncomputable def m_attribute_b_349 (fu : Nat) (σ : SM) (x1 : Int32) (x3 : Int32) (x5 : Int32) : Option (Int32 × SM) :=
  if x1 = (2 : Int32) then (m_u2 σ x3).bind fun r2 => ckIn x5 8300 (nx (sa σ 44 x5.toNatClampNeg r2) fun s5 => m_attribute_b_366 fu s5 x1 x3) else m_attribute_b_366 fu σ x1 x3
noncomputable def m_attribute_b_268 (fu : Nat) (k268 : SM → Int32 → Int32 → Int32 → Int32 → Int32 → Option (Int32 × SM)) (σ : SM) (x1 : Int32) (x3 : Int32) (x5 : Int32) (x6 : Int32) (x9 : Int32) : Option (Int32 × SM) :=
  (m_u2 σ x3).bind fun r1 => if r1 ≤ x9 then if x1 = (7 : Int32) then if ((x6 >>> ((6 : Int32) &&& 31)) &&& (1 : Int32)) = (1 : Int32) then some ((35 : Int32), σ) else m_attribute_b_349 fu σ x1 x3 x5 else m_attribute_b_349 fu σ x1 x3 x5 else (m_u2 σ ((x3 + (2 : Int32)) + ((2 : Int32) * x9))).bind fun r6 => (m_tag σ r6).bind fun r8 => if r8 = (7 : Int32) then nx (x9 + (1 : Int32)) fun y11 => k268 σ x1 x3 x5 x6 y11 else if x1 = (2 : Int32) then some ((32 : Int32), σ) else if x1 = (7 : Int32) then some ((35 : Int32), σ) else some ((36 : Int32), σ)
noncomputable def m_attribute_b_268L (fu : Nat) (n : Nat) : SM → Int32 → Int32 → Int32 → Int32 → Int32 → Option (Int32 × SM) := lpF (F := SM → Int32 → Int32 → Int32 → Int32 → Int32 → Option (Int32 × SM)) (fun _ _ _ _ _ _ => none) (fun k => m_attribute_b_268 fu k) n
noncomputable def m_attribute_b_265 (fu : Nat) (σ : SM) (x1 : Int32) (x3 : Int32) (x5 : Int32) (x6 : Int32) : Option (Int32 × SM) :=
  m_attribute_b_268L fu fu σ x1 x3 x5 x6 (0 : Int32)
noncomputable def m_attribute_b_525 (fu : Nat) (k431 : SM → Int32 → Int32 → Option (Int32 × SM)) (σ : SM) (x3 : Int32) (x9 : Int32) : Option (Int32 × SM) :=
  nx (x9 + (1 : Int32)) fun y1 => k431 σ x3 y1
noncomputable def m_attribute_b_495 (fu : Nat) (k431 : SM → Int32 → Int32 → Option (Int32 × SM)) (σ : SM) (x3 : Int32) (x9 : Int32) (x10 : Int32) : Option (Int32 × SM) :=
  (m_u2 σ (x10 + (4 : Int32))).bind fun r1 => if r1 = 0 then m_attribute_b_525 fu k431 σ x3 x9 else (m_u2 σ (x10 + (4 : Int32))).bind fun r4 => (m_tag σ r4).bind fun r6 => if r6 = (1 : Int32) then m_attribute_b_525 fu k431 σ x3 x9 else some ((33 : Int32), σ)
noncomputable def m_attribute_b_431 (fu : Nat) (k431 : SM → Int32 → Int32 → Option (Int32 × SM)) (σ : SM) (x3 : Int32) (x9 : Int32) : Option (Int32 × SM) :=
  (m_u2 σ x3).bind fun r1 => if r1 ≤ x9 then (m_u2 σ x3).bind fun r4 => nx (sf σ 65 r4) fun s6 => some ((0 : Int32), s6) else nx ((x3 + (2 : Int32)) + ((8 : Int32) * x9)) fun y7 => (m_u2 σ y7).bind fun r8 => (m_tag σ r8).bind fun r10 => if r10 = (7 : Int32) then (m_u2 σ (y7 + (2 : Int32))).bind fun r13 => if r13 = 0 then m_attribute_b_495 fu k431 σ x3 x9 y7 else (m_u2 σ (y7 + (2 : Int32))).bind fun r16 => (m_tag σ r16).bind fun r18 => if r18 = (7 : Int32) then m_attribute_b_495 fu k431 σ x3 x9 y7 else some ((33 : Int32), σ) else some ((33 : Int32), σ)
noncomputable def m_attribute_b_431L (fu : Nat) (n : Nat) : SM → Int32 → Int32 → Option (Int32 × SM) := lpF (F := SM → Int32 → Int32 → Option (Int32 × SM)) (fun _ _ _ => none) (fun k => m_attribute_b_431 fu k) n
noncomputable def m_attribute_b_0 (fu : Nat) (σ : SM) (x1 : Int32) (x2 : Int32) (x3 : Int32) (x4 : Int32) (x5 : Int32) (x6 : Int32) : Option (Int32 × SM) :=
  if x1 = (0 : Int32) then if (x4 - x3) = (2 : Int32) then ckIn x5 8300 (if ((σ.2 27 x5.toNatClampNeg) &&& (8 : Int32)) = 0 then some ((0 : Int32), σ) else ckIn x5 8300 ((m_at σ (σ.2 29 x5.toNatClampNeg) (0 : Int32)).bind fun r6 => if r6 = (74 : Int32) then m_attribute_b_175 fu σ x3 x5 (5 : Int32) else if r6 = (70 : Int32) then m_attribute_b_175 fu σ x3 x5 (4 : Int32) else if r6 = (68 : Int32) then m_attribute_b_175 fu σ x3 x5 (6 : Int32) else if r6 = (76 : Int32) then ckIn x5 8300 ((m_is fu σ (σ.2 29 x5.toNatClampNeg) 13).bind fun r14 => if r14 = 0 then m_attribute_b_175 fu σ x3 x5 (-1 : Int32) else m_attribute_b_175 fu σ x3 x5 (8 : Int32)) else if r6 = (91 : Int32) then m_attribute_b_175 fu σ x3 x5 (-1 : Int32) else m_attribute_b_175 fu σ x3 x5 (3 : Int32))) else some ((30 : Int32), σ) else if x1 = (1 : Int32) then (none : Option (Int32 × SM)) else if x1 = (2 : Int32) then if (x4 - x3) < (2 : Int32) then some ((30 : Int32), σ) else (m_u2 σ x3).bind fun r20 => if (x4 - x3) = ((2 : Int32) + ((2 : Int32) * r20)) then if x1 = (9 : Int32) then if ((σ.1 58) &&& (16 : Int32)) = 0 then m_attribute_b_265 fu σ x1 x3 x5 x6 else some ((36 : Int32), σ) else m_attribute_b_265 fu σ x1 x3 x5 x6 else some ((30 : Int32), σ) else if x1 = (3 : Int32) then some ((0 : Int32), σ) else if x1 = (4 : Int32) then if (x4 - x3) < (2 : Int32) then some ((30 : Int32), σ) else (m_u2 σ x3).bind fun r28 => if (x4 - x3) = ((2 : Int32) + ((8 : Int32) * r28)) then m_attribute_b_431L fu fu σ x3 (0 : Int32) else some ((30 : Int32), σ) else if x1 = (5 : Int32) then (m_bootstraps fu σ x3 x4).bind fun r32 => some (r32.1, r32.2) else if x1 = (6 : Int32) then if (x4 - x3) = (2 : Int32) then (m_u2 σ x3).bind fun r36 => (m_tag σ r36).bind fun r38 => if r38 = (7 : Int32) then if ((x6 >>> ((7 : Int32) &&& 31)) &&& (1 : Int32)) = (1 : Int32) then some ((34 : Int32), σ) else (m_u2 σ x3).bind fun r42 => nx (sf σ 67 r42) fun s44 => some ((0 : Int32), s44) else some ((34 : Int32), σ) else some ((30 : Int32), σ) else if x1 = (7 : Int32) then if (x4 - x3) < (2 : Int32) then some ((30 : Int32), σ) else (m_u2 σ x3).bind fun r47 => if (x4 - x3) = ((2 : Int32) + ((2 : Int32) * r47)) then if x1 = (9 : Int32) then if ((σ.1 58) &&& (16 : Int32)) = 0 then m_attribute_b_265 fu σ x1 x3 x5 x6 else some ((36 : Int32), σ) else m_attribute_b_265 fu σ x1 x3 x5 x6 else some ((30 : Int32), σ) else if x1 = (8 : Int32) then (m_components fu σ x3 x4).bind fun r53 => some (r53.1, r53.2) else if x1 = (9 : Int32) then if (x4 - x3) < (2 : Int32) then some ((30 : Int32), σ) else (m_u2 σ x3).bind fun r57 => if (x4 - x3) = ((2 : Int32) + ((2 : Int32) * r57)) then if x1 = (9 : Int32) then if ((σ.1 58) &&& (16 : Int32)) = 0 then m_attribute_b_265 fu σ x1 x3 x5 x6 else some ((36 : Int32), σ) else m_attribute_b_265 fu σ x1 x3 x5 x6 else some ((30 : Int32), σ) else (m_components fu σ x3 x4).bind fun r62 => some (r62.1, r62.2)
noncomputable def m_attribute_b (fu : Nat) (σ : SM) (x1 : Int32) (x2 : Int32) (x3 : Int32) (x4 : Int32) (x5 : Int32) (x6 : Int32) : Option (Int32 × SM) := m_attribute_b_0 fu σ x1 x2 x3 x4 x5 x6
noncomputable def m_checkAttributes_b_134 (fu : Nat) (k79 : SM → Int32 → Int32 → Int32 → Int32 → Int32 → Int32 → Int32 → Int32 → Int32 → Int32 → Option (Int32 × SM)) (σ : SM) (x2 : Int32) (x3 : Int32) (x4 : Int32) (x5 : Int32) (x6 : Int32) (x7 : Int32) (x8 : Int32) (x9 : Int32) (x10 : Int32) (x11 : Int32) : Option (Int32 × SM) :=
  nx (x11 + (1 : Int32)) fun y1 => k79 σ x2 x3 x4 x5 x6 x7 x8 x9 x10 y1
noncomputable def m_checkAttributes_b_268 (fu : Nat) (k18 : SM → Int32 → Int32 → Int32 → Int32 → Int32 → Int32 → Option (Int32 × SM)) (σ : SM) (x2 : Int32) (x3 : Int32) (x4 : Int32) (x5 : Int32) (x6 : Int32) (x7 : Int32) (x8 : Int32) : Option (Int32 × SM) :=
  nx (x5 + ((6 : Int32) + x8)) fun y1 => nx (x7 + (1 : Int32)) fun y2 => k18 σ x2 x3 x4 y1 x6 y2
noncomputable def m_checkAttributes_b_261 (fu : Nat) (k18 : SM → Int32 → Int32 → Int32 → Int32 → Int32 → Int32 → Option (Int32 × SM)) (σ : SM) (x2 : Int32) (x3 : Int32) (x4 : Int32) (x5 : Int32) (x6 : Int32) (x7 : Int32) (x8 : Int32) (x11 : Int32) : Option (Int32 × SM) :=
  if x11 = 0 then m_checkAttributes_b_268 fu k18 σ x2 x3 x4 x5 x6 x7 x8 else some ((-1 : Int32), σ)
noncomputable def m_checkAttributes_b_190 (fu : Nat) (k18 : SM → Int32 → Int32 → Int32 → Int32 → Int32 → Int32 → Option (Int32 × SM)) (σ : SM) (x2 : Int32) (x3 : Int32) (x4 : Int32) (x5 : Int32) (x6 : Int32) (x7 : Int32) (x8 : Int32) (x10 : Int32) : Option (Int32 × SM) :=
  if ((x6 >>> (x10 &&& 31)) &&& (1 : Int32)) = (1 : Int32) then (m_wrong σ (29 : Int32) x5).bind fun r9 => some ((-1 : Int32), r9.2) else (m_attribute_b fu σ x10 x5 (x5 + (6 : Int32)) ((x5 + (6 : Int32)) + x8) x3 x6).bind fun r2 => nx r2.1 fun y4 => nx (x6 ||| ((1 : Int32) <<< (x10 &&& 31))) fun y5 => if y4 ≤ 0 then m_checkAttributes_b_261 fu k18 r2.2 x2 x3 x4 x5 y5 x7 x8 y4 else (m_wrong r2.2 y4 x5).bind fun r7 => m_checkAttributes_b_261 fu k18 r7.2 x2 x3 x4 x5 y5 x7 x8 y4
noncomputable def m_checkAttributes_b_175 (fu : Nat) (k18 : SM → Int32 → Int32 → Int32 → Int32 → Int32 → Int32 → Option (Int32 × SM)) (σ : SM) (x2 : Int32) (x3 : Int32) (x4 : Int32) (x5 : Int32) (x6 : Int32) (x7 : Int32) (x8 : Int32) (x10 : Int32) : Option (Int32 × SM) :=
  if x2 = (4 : Int32) then nx (sf σ 66 ((σ.1 66) + (1 : Int32))) fun s2 => m_checkAttributes_b_190 fu k18 s2 x2 x3 x4 x5 x6 x7 x8 x10 else m_checkAttributes_b_190 fu k18 σ x2 x3 x4 x5 x6 x7 x8 x10
noncomputable def m_checkAttributes_b_160 (fu : Nat) (k18 : SM → Int32 → Int32 → Int32 → Int32 → Int32 → Int32 → Option (Int32 × SM)) (σ : SM) (x2 : Int32) (x3 : Int32) (x4 : Int32) (x5 : Int32) (x6 : Int32) (x7 : Int32) (x8 : Int32) (x10 : Int32) : Option (Int32 × SM) :=
  if x2 = (2 : Int32) then ckIn x3 8300 (ckIn x3 8300 (nx (sa σ 43 x3.toNatClampNeg ((σ.2 43 x3.toNatClampNeg) + (1 : Int32))) fun s4 => m_checkAttributes_b_175 fu k18 s4 x2 x3 x4 x5 x6 x7 x8 x10)) else m_checkAttributes_b_175 fu k18 σ x2 x3 x4 x5 x6 x7 x8 x10
noncomputable def m_checkAttributes_b_79 (fu : Nat) (k18 : SM → Int32 → Int32 → Int32 → Int32 → Int32 → Int32 → Option (Int32 × SM)) (k79 : SM → Int32 → Int32 → Int32 → Int32 → Int32 → Int32 → Int32 → Int32 → Int32 → Int32 → Option (Int32 × SM)) (σ : SM) (x2 : Int32) (x3 : Int32) (x4 : Int32) (x5 : Int32) (x6 : Int32) (x7 : Int32) (x8 : Int32) (x9 : Int32) (x10 : Int32) (x11 : Int32) : Option (Int32 × SM) :=
  if (10 : Int32) ≤ x11 then if x10 < 0 then m_checkAttributes_b_268 fu k18 σ x2 x3 x4 x5 x6 x7 x8 else if x2 = (1 : Int32) then ckIn x3 8300 (ckIn x3 8300 (nx (sa σ 31 x3.toNatClampNeg ((σ.2 31 x3.toNatClampNeg) + (1 : Int32))) fun s6 => m_checkAttributes_b_160 fu k18 s6 x2 x3 x4 x5 x6 x7 x8 x10)) else m_checkAttributes_b_160 fu k18 σ x2 x3 x4 x5 x6 x7 x8 x10 else ckIn x11 10 (if (σ.2 63 x11.toNatClampNeg) = x2 then ckIn x11 10 (if (σ.1 53) < (σ.2 64 x11.toNatClampNeg) then m_checkAttributes_b_134 fu k79 σ x2 x3 x4 x5 x6 x7 x8 x9 x10 x11 else ckIn x11 10 ((m_is fu σ x9 x11.toNatClampNeg).bind fun r12 => if r12 = 0 then m_checkAttributes_b_134 fu k79 σ x2 x3 x4 x5 x6 x7 x8 x9 x10 x11 else m_checkAttributes_b_134 fu k79 σ x2 x3 x4 x5 x6 x7 x8 x9 x11 x11)) else m_checkAttributes_b_134 fu k79 σ x2 x3 x4 x5 x6 x7 x8 x9 x10 x11)
noncomputable def m_checkAttributes_b_79L (fu : Nat) (k18 : SM → Int32 → Int32 → Int32 → Int32 → Int32 → Int32 → Option (Int32 × SM)) (n : Nat) : SM → Int32 → Int32 → Int32 → Int32 → Int32 → Int32 → Int32 → Int32 → Int32 → Int32 → Option (Int32 × SM) := lpF (F := SM → Int32 → Int32 → Int32 → Int32 → Int32 → Int32 → Int32 → Int32 → Int32 → Int32 → Option (Int32 × SM)) (fun _ _ _ _ _ _ _ _ _ _ _ => none) (fun k => m_checkAttributes_b_79 fu k18 k) n
noncomputable def m_checkAttributes_b_18 (fu : Nat) (k18 : SM → Int32 → Int32 → Int32 → Int32 → Int32 → Int32 → Option (Int32 × SM)) (σ : SM) (x2 : Int32) (x3 : Int32) (x4 : Int32) (x5 : Int32) (x6 : Int32) (x7 : Int32) : Option (Int32 × SM) :=
  if x4 ≤ x7 then some (x5, σ) else (m_u4 σ (x5 + (2 : Int32))).bind fun r2 => nx r2.toInt32 fun y4 => (m_u2 σ x5).bind fun r5 => (m_tag σ r5).bind fun r7 => if r7 = (1 : Int32) then (m_u2 σ x5).bind fun r10 => (m_symOf σ r10).bind fun r12 => m_checkAttributes_b_79L fu k18 fu σ x2 x3 x4 x5 x6 x7 y4 r12 (-1 : Int32) (0 : Int32) else (m_wrong σ (28 : Int32) x5).bind fun r14 => some ((-1 : Int32), r14.2)
noncomputable def m_checkAttributes_b_18L (fu : Nat) (n : Nat) : SM → Int32 → Int32 → Int32 → Int32 → Int32 → Int32 → Option (Int32 × SM) := lpF (F := SM → Int32 → Int32 → Int32 → Int32 → Int32 → Int32 → Option (Int32 × SM)) (fun _ _ _ _ _ _ _ => none) (fun k => m_checkAttributes_b_18 fu k) n
noncomputable def m_checkAttributes_b_0 (fu : Nat) (σ : SM) (x1 : Int32) (x2 : Int32) (x3 : Int32) : Option (Int32 × SM) :=
  (m_u2 σ x1).bind fun r1 => nx (x1 + (2 : Int32)) fun y3 => m_checkAttributes_b_18L fu fu σ x2 x3 r1 y3 (0 : Int32) (0 : Int32)
noncomputable def m_checkAttributes_b (fu : Nat) (σ : SM) (x1 : Int32) (x2 : Int32) (x3 : Int32) : Option (Int32 × SM) := m_checkAttributes_b_0 fu σ x1 x2 x3
noncomputable def m_code_347 (fu : Nat) (k250 : SM → Int32 → Int32 → Int64 → Int32 → Int32 → Int32 → Int32 → Option (Int32 × SM)) (σ : SM) (x2 : Int32) (x4 : Int32) (x5 : Int64) (x8 : Int32) (x9 : Int32) (x10 : Int32) (x13 : Int32) : Option (Int32 × SM) :=
  nx (x13 + (1 : Int32)) fun y1 => k250 σ x2 x4 x5 x8 x9 x10 y1
noncomputable def m_code_250 (fu : Nat) (k250 : SM → Int32 → Int32 → Int64 → Int32 → Int32 → Int32 → Int32 → Option (Int32 × SM)) (σ : SM) (x2 : Int32) (x4 : Int32) (x5 : Int64) (x8 : Int32) (x9 : Int32) (x10 : Int32) (x13 : Int32) : Option (Int32 × SM) :=
  if x8 ≤ x13 then (m_u2 σ x2).bind fun r2 => ckIn x4 8300 (nx (sa σ 39 x4.toNatClampNeg r2) fun s5 => (m_u2 s5 (x2 + (2 : Int32))).bind fun r6 => ckIn x4 8300 (nx (sa s5 40 x4.toNatClampNeg r6) fun s9 => ckIn x4 8300 (nx (sa s9 38 x4.toNatClampNeg x5.toInt32) fun s11 => ckIn x4 8300 (nx (sa s11 37 x4.toNatClampNeg (((s11.1 49) + x2) + (8 : Int32))) fun s13 => ckIn x4 8300 (nx (sa s13 41 x4.toNatClampNeg ((s13.1 49) + x9)) fun s15 => ckIn x4 8300 (nx (sa s15 42 x4.toNatClampNeg x8) fun s17 => (m_checkAttributes_b fu s17 x10 (3 : Int32) x4).bind fun r18 => if 0 ≤ r18.1 then some ((0 : Int32), r18.2) else some ((-1 : Int32), r18.2))))))) else nx (x9 + ((8 : Int32) * x13)) fun y21 => (m_u2 σ y21).bind fun r22 => (m_u2 σ (y21 + (2 : Int32))).bind fun r24 => if r24 ≤ r22 then some ((43 : Int32), σ) else (m_u2 σ (y21 + (2 : Int32))).bind fun r27 => if 0 < (lg_cmp r27.toInt64 x5) then some ((43 : Int32), σ) else (m_u2 σ (y21 + (4 : Int32))).bind fun r30 => if 0 ≤ (lg_cmp r30.toInt64 x5) then some ((43 : Int32), σ) else (m_u2 σ (y21 + (6 : Int32))).bind fun r33 => if r33 = 0 then m_code_347 fu k250 σ x2 x4 x5 x8 x9 x10 x13 else (m_u2 σ (y21 + (6 : Int32))).bind fun r36 => (m_tag σ r36).bind fun r38 => if r38 = (7 : Int32) then m_code_347 fu k250 σ x2 x4 x5 x8 x9 x10 x13 else some ((43 : Int32), σ)
noncomputable def m_code_250L (fu : Nat) (n : Nat) : SM → Int32 → Int32 → Int64 → Int32 → Int32 → Int32 → Int32 → Option (Int32 × SM) := lpF (F := SM → Int32 → Int32 → Int64 → Int32 → Int32 → Int32 → Int32 → Option (Int32 × SM)) (fun _ _ _ _ _ _ _ _ => none) (fun k => m_code_250 fu k) n
noncomputable def m_code_229 (fu : Nat) (σ : SM) (x2 : Int32) (x4 : Int32) (x5 : Int64) (x8 : Int32) (x9 : Int32) (x10 : Int32) (t0 : Int32) (t1 : Int32) : Option (Int32 × SM) :=
  nx (t1 + t0) fun y1 => (m_u2 σ (x2 + (2 : Int32))).bind fun r2 => if y1 ≤ r2 then m_code_250L fu fu σ x2 x4 x5 x8 x9 x10 (0 : Int32) else some ((42 : Int32), σ)
noncomputable def m_code_110 (fu : Nat) (k110 : SM → Int32 → Int32 → Int32 → Int64 → Int32 → Int32 → Int32 → Int32 → Int32 → Int32 → Option (Int32 × SM)) (σ : SM) (x2 : Int32) (x3 : Int32) (x4 : Int32) (x5 : Int64) (x7 : Int32) (x8 : Int32) (x9 : Int32) (x10 : Int32) (x11 : Int32) (x12 : Int32) : Option (Int32 × SM) :=
  if x11 ≤ x12 then if x7 = x3 then if (lg_cmp x5 (0 : Int64)) = 0 then some ((41 : Int32), σ) else if (lg_cmp x5 (65535 : Int64)) ≤ 0 then ckIn x4 8300 ((m_places0 fu σ (σ.2 36 x4.toNatClampNeg)).bind fun r6 => ckIn x4 8300 (if ((σ.2 34 x4.toNatClampNeg) &&& (8 : Int32)) = 0 then m_code_229 fu σ x2 x4 x5 x8 x9 x10 (1 : Int32) r6 else m_code_229 fu σ x2 x4 x5 x8 x9 x10 (0 : Int32) r6)) else some ((41 : Int32), σ) else some ((30 : Int32), σ) else if x3 < (x7 + (6 : Int32)) then some ((30 : Int32), σ) else (m_u4 σ (x7 + (2 : Int32))).bind fun r11 => if (lg_cmp r11 (((x3 - x7) - (6 : Int32)).toInt64)) ≤ 0 then (m_u4 σ (x7 + (2 : Int32))).bind fun r14 => nx (x7 + ((6 : Int32) + r14.toInt32)) fun y16 => nx (x12 + (1 : Int32)) fun y17 => k110 σ x2 x3 x4 x5 y16 x8 x9 x10 x11 y17 else some ((30 : Int32), σ)
noncomputable def m_code_110L (fu : Nat) (n : Nat) : SM → Int32 → Int32 → Int32 → Int64 → Int32 → Int32 → Int32 → Int32 → Int32 → Int32 → Option (Int32 × SM) := lpF (F := SM → Int32 → Int32 → Int32 → Int64 → Int32 → Int32 → Int32 → Int32 → Int32 → Int32 → Option (Int32 × SM)) (fun _ _ _ _ _ _ _ _ _ _ _ => none) (fun k => m_code_110 fu k) n
noncomputable def m_code_0 (fu : Nat) (σ : SM) (x2 : Int32) (x3 : Int32) (x4 : Int32) : Option (Int32 × SM) :=
  if (8 : Int32) ≤ (x3 - x2) then (m_u4 σ (x2 + (4 : Int32))).bind fun r2 => if (lg_cmp r2 (((x3 - x2) - (8 : Int32)).toInt64)) ≤ 0 then nx ((x2 + (8 : Int32)) + r2.toInt32) fun y5 => if (y5 + (2 : Int32)) ≤ x3 then (m_u2 σ y5).bind fun r7 => nx (y5 + (2 : Int32)) fun y9 => nx (y9 + ((8 : Int32) * r7)) fun y10 => if (y10 + (2 : Int32)) ≤ x3 then (m_u2 σ y10).bind fun r12 => nx (y10 + (2 : Int32)) fun y14 => m_code_110L fu fu σ x2 x3 x4 r2 y14 r7 y9 y10 r12 (0 : Int32) else some ((30 : Int32), σ) else some ((30 : Int32), σ) else some ((30 : Int32), σ) else some ((30 : Int32), σ)
noncomputable def m_code (fu : Nat) (σ : SM) (x1 : Int32) (x2 : Int32) (x3 : Int32) (x4 : Int32) : Option (Int32 × SM) := m_code_0 fu σ x2 x3 x4
noncomputable def m_attribute_175 (fu : Nat) (σ : SM) (x3 : Int32) (x5 : Int32) (t0 : Int32) : Option (Int32 × SM) :=
  (m_u2 σ x3).bind fun r1 => (m_tag σ r1).bind fun r3 => if r3 = t0 then (m_u2 σ x3).bind fun r6 => ckIn x5 8300 (nx (sa σ 30 x5.toNatClampNeg r6) fun s9 => some ((0 : Int32), s9)) else some ((31 : Int32), σ)
noncomputable def m_attribute_381 (fu : Nat) (σ : SM) (x1 : Int32) (x3 : Int32) : Option (Int32 × SM) :=
  if x1 = (9 : Int32) then (m_u2 σ x3).bind fun r2 => nx (sf σ 69 r2) fun s4 => some ((0 : Int32), s4) else some ((0 : Int32), σ)
noncomputable def m_attribute_366 (fu : Nat) (σ : SM) (x1 : Int32) (x3 : Int32) : Option (Int32 × SM) :=
  if x1 = (7 : Int32) then (m_u2 σ x3).bind fun r2 => nx (sf σ 68 r2) fun s4 => m_attribute_381 fu s4 x1 x3 else m_attribute_381 fu σ x1 x3
noncomputable def m_attribute_349 (fu : Nat) (σ : SM) (x1 : Int32) (x3 : Int32) (x5 : Int32) : Option (Int32 × SM) :=
  if x1 = (2 : Int32) then (m_u2 σ x3).bind fun r2 => ckIn x5 8300 (nx (sa σ 44 x5.toNatClampNeg r2) fun s5 => m_attribute_366 fu s5 x1 x3) else m_attribute_366 fu σ x1 x3
noncomputable def m_attribute_268 (fu : Nat) (k268 : SM → Int32 → Int32 → Int32 → Int32 → Int32 → Option (Int32 × SM)) (σ : SM) (x1 : Int32) (x3 : Int32) (x5 : Int32) (x6 : Int32) (x9 : Int32) : Option (Int32 × SM) :=
  (m_u2 σ x3).bind fun r1 => if r1 ≤ x9 then if x1 = (7 : Int32) then if ((x6 >>> ((6 : Int32) &&& 31)) &&& (1 : Int32)) = (1 : Int32) then some ((35 : Int32), σ) else m_attribute_349 fu σ x1 x3 x5 else m_attribute_349 fu σ x1 x3 x5 else (m_u2 σ ((x3 + (2 : Int32)) + ((2 : Int32) * x9))).bind fun r6 => (m_tag σ r6).bind fun r8 => if r8 = (7 : Int32) then nx (x9 + (1 : Int32)) fun y11 => k268 σ x1 x3 x5 x6 y11 else if x1 = (2 : Int32) then some ((32 : Int32), σ) else if x1 = (7 : Int32) then some ((35 : Int32), σ) else some ((36 : Int32), σ)
noncomputable def m_attribute_268L (fu : Nat) (n : Nat) : SM → Int32 → Int32 → Int32 → Int32 → Int32 → Option (Int32 × SM) := lpF (F := SM → Int32 → Int32 → Int32 → Int32 → Int32 → Option (Int32 × SM)) (fun _ _ _ _ _ _ => none) (fun k => m_attribute_268 fu k) n
noncomputable def m_attribute_265 (fu : Nat) (σ : SM) (x1 : Int32) (x3 : Int32) (x5 : Int32) (x6 : Int32) : Option (Int32 × SM) :=
  m_attribute_268L fu fu σ x1 x3 x5 x6 (0 : Int32)
noncomputable def m_attribute_525 (fu : Nat) (k431 : SM → Int32 → Int32 → Option (Int32 × SM)) (σ : SM) (x3 : Int32) (x9 : Int32) : Option (Int32 × SM) :=
  nx (x9 + (1 : Int32)) fun y1 => k431 σ x3 y1
noncomputable def m_attribute_495 (fu : Nat) (k431 : SM → Int32 → Int32 → Option (Int32 × SM)) (σ : SM) (x3 : Int32) (x9 : Int32) (x10 : Int32) : Option (Int32 × SM) :=
  (m_u2 σ (x10 + (4 : Int32))).bind fun r1 => if r1 = 0 then m_attribute_525 fu k431 σ x3 x9 else (m_u2 σ (x10 + (4 : Int32))).bind fun r4 => (m_tag σ r4).bind fun r6 => if r6 = (1 : Int32) then m_attribute_525 fu k431 σ x3 x9 else some ((33 : Int32), σ)
noncomputable def m_attribute_431 (fu : Nat) (k431 : SM → Int32 → Int32 → Option (Int32 × SM)) (σ : SM) (x3 : Int32) (x9 : Int32) : Option (Int32 × SM) :=
  (m_u2 σ x3).bind fun r1 => if r1 ≤ x9 then (m_u2 σ x3).bind fun r4 => nx (sf σ 65 r4) fun s6 => some ((0 : Int32), s6) else nx ((x3 + (2 : Int32)) + ((8 : Int32) * x9)) fun y7 => (m_u2 σ y7).bind fun r8 => (m_tag σ r8).bind fun r10 => if r10 = (7 : Int32) then (m_u2 σ (y7 + (2 : Int32))).bind fun r13 => if r13 = 0 then m_attribute_495 fu k431 σ x3 x9 y7 else (m_u2 σ (y7 + (2 : Int32))).bind fun r16 => (m_tag σ r16).bind fun r18 => if r18 = (7 : Int32) then m_attribute_495 fu k431 σ x3 x9 y7 else some ((33 : Int32), σ) else some ((33 : Int32), σ)
noncomputable def m_attribute_431L (fu : Nat) (n : Nat) : SM → Int32 → Int32 → Option (Int32 × SM) := lpF (F := SM → Int32 → Int32 → Option (Int32 × SM)) (fun _ _ _ => none) (fun k => m_attribute_431 fu k) n
noncomputable def m_attribute_0 (fu : Nat) (σ : SM) (x1 : Int32) (x2 : Int32) (x3 : Int32) (x4 : Int32) (x5 : Int32) (x6 : Int32) : Option (Int32 × SM) :=
  if x1 = (0 : Int32) then if (x4 - x3) = (2 : Int32) then ckIn x5 8300 (if ((σ.2 27 x5.toNatClampNeg) &&& (8 : Int32)) = 0 then some ((0 : Int32), σ) else ckIn x5 8300 ((m_at σ (σ.2 29 x5.toNatClampNeg) (0 : Int32)).bind fun r6 => if r6 = (74 : Int32) then m_attribute_175 fu σ x3 x5 (5 : Int32) else if r6 = (70 : Int32) then m_attribute_175 fu σ x3 x5 (4 : Int32) else if r6 = (68 : Int32) then m_attribute_175 fu σ x3 x5 (6 : Int32) else if r6 = (76 : Int32) then ckIn x5 8300 ((m_is fu σ (σ.2 29 x5.toNatClampNeg) 13).bind fun r14 => if r14 = 0 then m_attribute_175 fu σ x3 x5 (-1 : Int32) else m_attribute_175 fu σ x3 x5 (8 : Int32)) else if r6 = (91 : Int32) then m_attribute_175 fu σ x3 x5 (-1 : Int32) else m_attribute_175 fu σ x3 x5 (3 : Int32))) else some ((30 : Int32), σ) else if x1 = (1 : Int32) then (m_code fu σ x2 x3 x4 x5).bind fun r18 => some (r18.1, r18.2) else if x1 = (2 : Int32) then if (x4 - x3) < (2 : Int32) then some ((30 : Int32), σ) else (m_u2 σ x3).bind fun r22 => if (x4 - x3) = ((2 : Int32) + ((2 : Int32) * r22)) then if x1 = (9 : Int32) then if ((σ.1 58) &&& (16 : Int32)) = 0 then m_attribute_265 fu σ x1 x3 x5 x6 else some ((36 : Int32), σ) else m_attribute_265 fu σ x1 x3 x5 x6 else some ((30 : Int32), σ) else if x1 = (3 : Int32) then some ((0 : Int32), σ) else if x1 = (4 : Int32) then if (x4 - x3) < (2 : Int32) then some ((30 : Int32), σ) else (m_u2 σ x3).bind fun r30 => if (x4 - x3) = ((2 : Int32) + ((8 : Int32) * r30)) then m_attribute_431L fu fu σ x3 (0 : Int32) else some ((30 : Int32), σ) else if x1 = (5 : Int32) then (m_bootstraps fu σ x3 x4).bind fun r34 => some (r34.1, r34.2) else if x1 = (6 : Int32) then if (x4 - x3) = (2 : Int32) then (m_u2 σ x3).bind fun r38 => (m_tag σ r38).bind fun r40 => if r40 = (7 : Int32) then if ((x6 >>> ((7 : Int32) &&& 31)) &&& (1 : Int32)) = (1 : Int32) then some ((34 : Int32), σ) else (m_u2 σ x3).bind fun r44 => nx (sf σ 67 r44) fun s46 => some ((0 : Int32), s46) else some ((34 : Int32), σ) else some ((30 : Int32), σ) else if x1 = (7 : Int32) then if (x4 - x3) < (2 : Int32) then some ((30 : Int32), σ) else (m_u2 σ x3).bind fun r49 => if (x4 - x3) = ((2 : Int32) + ((2 : Int32) * r49)) then if x1 = (9 : Int32) then if ((σ.1 58) &&& (16 : Int32)) = 0 then m_attribute_265 fu σ x1 x3 x5 x6 else some ((36 : Int32), σ) else m_attribute_265 fu σ x1 x3 x5 x6 else some ((30 : Int32), σ) else if x1 = (8 : Int32) then (m_components fu σ x3 x4).bind fun r55 => some (r55.1, r55.2) else if x1 = (9 : Int32) then if (x4 - x3) < (2 : Int32) then some ((30 : Int32), σ) else (m_u2 σ x3).bind fun r59 => if (x4 - x3) = ((2 : Int32) + ((2 : Int32) * r59)) then if x1 = (9 : Int32) then if ((σ.1 58) &&& (16 : Int32)) = 0 then m_attribute_265 fu σ x1 x3 x5 x6 else some ((36 : Int32), σ) else m_attribute_265 fu σ x1 x3 x5 x6 else some ((30 : Int32), σ) else (m_components fu σ x3 x4).bind fun r64 => some (r64.1, r64.2)
noncomputable def m_attribute (fu : Nat) (σ : SM) (x1 : Int32) (x2 : Int32) (x3 : Int32) (x4 : Int32) (x5 : Int32) (x6 : Int32) : Option (Int32 × SM) := m_attribute_0 fu σ x1 x2 x3 x4 x5 x6
noncomputable def m_checkAttributes_134 (fu : Nat) (k79 : SM → Int32 → Int32 → Int32 → Int32 → Int32 → Int32 → Int32 → Int32 → Int32 → Int32 → Option (Int32 × SM)) (σ : SM) (x2 : Int32) (x3 : Int32) (x4 : Int32) (x5 : Int32) (x6 : Int32) (x7 : Int32) (x8 : Int32) (x9 : Int32) (x10 : Int32) (x11 : Int32) : Option (Int32 × SM) :=
  nx (x11 + (1 : Int32)) fun y1 => k79 σ x2 x3 x4 x5 x6 x7 x8 x9 x10 y1
noncomputable def m_checkAttributes_268 (fu : Nat) (k18 : SM → Int32 → Int32 → Int32 → Int32 → Int32 → Int32 → Option (Int32 × SM)) (σ : SM) (x2 : Int32) (x3 : Int32) (x4 : Int32) (x5 : Int32) (x6 : Int32) (x7 : Int32) (x8 : Int32) : Option (Int32 × SM) :=
  nx (x5 + ((6 : Int32) + x8)) fun y1 => nx (x7 + (1 : Int32)) fun y2 => k18 σ x2 x3 x4 y1 x6 y2
noncomputable def m_checkAttributes_261 (fu : Nat) (k18 : SM → Int32 → Int32 → Int32 → Int32 → Int32 → Int32 → Option (Int32 × SM)) (σ : SM) (x2 : Int32) (x3 : Int32) (x4 : Int32) (x5 : Int32) (x6 : Int32) (x7 : Int32) (x8 : Int32) (x11 : Int32) : Option (Int32 × SM) :=
  if x11 = 0 then m_checkAttributes_268 fu k18 σ x2 x3 x4 x5 x6 x7 x8 else some ((-1 : Int32), σ)
noncomputable def m_checkAttributes_190 (fu : Nat) (k18 : SM → Int32 → Int32 → Int32 → Int32 → Int32 → Int32 → Option (Int32 × SM)) (σ : SM) (x2 : Int32) (x3 : Int32) (x4 : Int32) (x5 : Int32) (x6 : Int32) (x7 : Int32) (x8 : Int32) (x10 : Int32) : Option (Int32 × SM) :=
  if ((x6 >>> (x10 &&& 31)) &&& (1 : Int32)) = (1 : Int32) then (m_wrong σ (29 : Int32) x5).bind fun r9 => some ((-1 : Int32), r9.2) else (m_attribute fu σ x10 x5 (x5 + (6 : Int32)) ((x5 + (6 : Int32)) + x8) x3 x6).bind fun r2 => nx r2.1 fun y4 => nx (x6 ||| ((1 : Int32) <<< (x10 &&& 31))) fun y5 => if y4 ≤ 0 then m_checkAttributes_261 fu k18 r2.2 x2 x3 x4 x5 y5 x7 x8 y4 else (m_wrong r2.2 y4 x5).bind fun r7 => m_checkAttributes_261 fu k18 r7.2 x2 x3 x4 x5 y5 x7 x8 y4
noncomputable def m_checkAttributes_175 (fu : Nat) (k18 : SM → Int32 → Int32 → Int32 → Int32 → Int32 → Int32 → Option (Int32 × SM)) (σ : SM) (x2 : Int32) (x3 : Int32) (x4 : Int32) (x5 : Int32) (x6 : Int32) (x7 : Int32) (x8 : Int32) (x10 : Int32) : Option (Int32 × SM) :=
  if x2 = (4 : Int32) then nx (sf σ 66 ((σ.1 66) + (1 : Int32))) fun s2 => m_checkAttributes_190 fu k18 s2 x2 x3 x4 x5 x6 x7 x8 x10 else m_checkAttributes_190 fu k18 σ x2 x3 x4 x5 x6 x7 x8 x10
noncomputable def m_checkAttributes_160 (fu : Nat) (k18 : SM → Int32 → Int32 → Int32 → Int32 → Int32 → Int32 → Option (Int32 × SM)) (σ : SM) (x2 : Int32) (x3 : Int32) (x4 : Int32) (x5 : Int32) (x6 : Int32) (x7 : Int32) (x8 : Int32) (x10 : Int32) : Option (Int32 × SM) :=
  if x2 = (2 : Int32) then ckIn x3 8300 (ckIn x3 8300 (nx (sa σ 43 x3.toNatClampNeg ((σ.2 43 x3.toNatClampNeg) + (1 : Int32))) fun s4 => m_checkAttributes_175 fu k18 s4 x2 x3 x4 x5 x6 x7 x8 x10)) else m_checkAttributes_175 fu k18 σ x2 x3 x4 x5 x6 x7 x8 x10
noncomputable def m_checkAttributes_79 (fu : Nat) (k18 : SM → Int32 → Int32 → Int32 → Int32 → Int32 → Int32 → Option (Int32 × SM)) (k79 : SM → Int32 → Int32 → Int32 → Int32 → Int32 → Int32 → Int32 → Int32 → Int32 → Int32 → Option (Int32 × SM)) (σ : SM) (x2 : Int32) (x3 : Int32) (x4 : Int32) (x5 : Int32) (x6 : Int32) (x7 : Int32) (x8 : Int32) (x9 : Int32) (x10 : Int32) (x11 : Int32) : Option (Int32 × SM) :=
  if (10 : Int32) ≤ x11 then if x10 < 0 then m_checkAttributes_268 fu k18 σ x2 x3 x4 x5 x6 x7 x8 else if x2 = (1 : Int32) then ckIn x3 8300 (ckIn x3 8300 (nx (sa σ 31 x3.toNatClampNeg ((σ.2 31 x3.toNatClampNeg) + (1 : Int32))) fun s6 => m_checkAttributes_160 fu k18 s6 x2 x3 x4 x5 x6 x7 x8 x10)) else m_checkAttributes_160 fu k18 σ x2 x3 x4 x5 x6 x7 x8 x10 else ckIn x11 10 (if (σ.2 63 x11.toNatClampNeg) = x2 then ckIn x11 10 (if (σ.1 53) < (σ.2 64 x11.toNatClampNeg) then m_checkAttributes_134 fu k79 σ x2 x3 x4 x5 x6 x7 x8 x9 x10 x11 else ckIn x11 10 ((m_is fu σ x9 x11.toNatClampNeg).bind fun r12 => if r12 = 0 then m_checkAttributes_134 fu k79 σ x2 x3 x4 x5 x6 x7 x8 x9 x10 x11 else m_checkAttributes_134 fu k79 σ x2 x3 x4 x5 x6 x7 x8 x9 x11 x11)) else m_checkAttributes_134 fu k79 σ x2 x3 x4 x5 x6 x7 x8 x9 x10 x11)
noncomputable def m_checkAttributes_79L (fu : Nat) (k18 : SM → Int32 → Int32 → Int32 → Int32 → Int32 → Int32 → Option (Int32 × SM)) (n : Nat) : SM → Int32 → Int32 → Int32 → Int32 → Int32 → Int32 → Int32 → Int32 → Int32 → Int32 → Option (Int32 × SM) := lpF (F := SM → Int32 → Int32 → Int32 → Int32 → Int32 → Int32 → Int32 → Int32 → Int32 → Int32 → Option (Int32 × SM)) (fun _ _ _ _ _ _ _ _ _ _ _ => none) (fun k => m_checkAttributes_79 fu k18 k) n
noncomputable def m_checkAttributes_18 (fu : Nat) (k18 : SM → Int32 → Int32 → Int32 → Int32 → Int32 → Int32 → Option (Int32 × SM)) (σ : SM) (x2 : Int32) (x3 : Int32) (x4 : Int32) (x5 : Int32) (x6 : Int32) (x7 : Int32) : Option (Int32 × SM) :=
  if x4 ≤ x7 then some (x5, σ) else (m_u4 σ (x5 + (2 : Int32))).bind fun r2 => nx r2.toInt32 fun y4 => (m_u2 σ x5).bind fun r5 => (m_tag σ r5).bind fun r7 => if r7 = (1 : Int32) then (m_u2 σ x5).bind fun r10 => (m_symOf σ r10).bind fun r12 => m_checkAttributes_79L fu k18 fu σ x2 x3 x4 x5 x6 x7 y4 r12 (-1 : Int32) (0 : Int32) else (m_wrong σ (28 : Int32) x5).bind fun r14 => some ((-1 : Int32), r14.2)
noncomputable def m_checkAttributes_18L (fu : Nat) (n : Nat) : SM → Int32 → Int32 → Int32 → Int32 → Int32 → Int32 → Option (Int32 × SM) := lpF (F := SM → Int32 → Int32 → Int32 → Int32 → Int32 → Int32 → Option (Int32 × SM)) (fun _ _ _ _ _ _ _ => none) (fun k => m_checkAttributes_18 fu k) n
noncomputable def m_checkAttributes_0 (fu : Nat) (σ : SM) (x1 : Int32) (x2 : Int32) (x3 : Int32) : Option (Int32 × SM) :=
  (m_u2 σ x1).bind fun r1 => nx (x1 + (2 : Int32)) fun y3 => m_checkAttributes_18L fu fu σ x2 x3 r1 y3 (0 : Int32) (0 : Int32)
noncomputable def m_checkAttributes (fu : Nat) (σ : SM) (x1 : Int32) (x2 : Int32) (x3 : Int32) : Option (Int32 × SM) := m_checkAttributes_0 fu σ x1 x2 x3
noncomputable def m_checkFields_84 (fu : Nat) (σ : SM) (x1 : Int32) : Option (Int32 × SM) :=
  (m_wrong σ (19 : Int32) x1).bind fun r1 => ckN .boolean r1.1 (some (r1.1, r1.2))
noncomputable def m_checkFields_126 (fu : Nat) (σ : SM) (x1 : Int32) : Option (Int32 × SM) :=
  (m_wrong σ (20 : Int32) (x1 + (2 : Int32))).bind fun r1 => ckN .boolean r1.1 (some (r1.1, r1.2))
noncomputable def m_checkFields_169 (fu : Nat) (σ : SM) (x1 : Int32) : Option (Int32 × SM) :=
  (m_wrong σ (21 : Int32) (x1 + (4 : Int32))).bind fun r1 => ckN .boolean r1.1 (some (r1.1, r1.2))
noncomputable def m_checkFields_326 (fu : Nat) (k277 : SM → Int32 → Int32 → Int32 → Int32 → Int32 → Int32 → Option (Int32 × SM)) (σ : SM) (x1 : Int32) (x2 : Int32) (x3 : Int32) (x4 : Int32) (x6 : Int32) (x7 : Int32) : Option (Int32 × SM) :=
  nx (x7 + (1 : Int32)) fun y1 => k277 σ x1 x2 x3 x4 x6 y1
noncomputable def m_checkFields_277 (fu : Nat) (k22 : SM → Int32 → Int32 → Int32 → Int32 → Option (Int32 × SM)) (k277 : SM → Int32 → Int32 → Int32 → Int32 → Int32 → Int32 → Option (Int32 × SM)) (σ : SM) (x1 : Int32) (x2 : Int32) (x3 : Int32) (x4 : Int32) (x6 : Int32) (x7 : Int32) : Option (Int32 × SM) :=
  if x6 ≤ x7 then nx (sf σ 25 ((σ.1 25) + (1 : Int32))) fun s2 => (m_checkAttributes fu s2 (x1 + (6 : Int32)) (1 : Int32) x6).bind fun r3 => nx r3.1 fun y5 => if 0 ≤ y5 then nx (x4 + (1 : Int32)) fun y7 => k22 r3.2 y5 x2 x3 y7 else some ((0 : Int32), r3.2) else ckIn x7 8300 (ckIn x6 8300 (if (σ.2 28 x7.toNatClampNeg) = (σ.2 28 x6.toNatClampNeg) then ckIn x7 8300 (ckIn x6 8300 (if (σ.2 29 x7.toNatClampNeg) = (σ.2 29 x6.toNatClampNeg) then (m_wrong σ (22 : Int32) x1).bind fun r14 => ckN .boolean r14.1 (some (r14.1, r14.2)) else m_checkFields_326 fu k277 σ x1 x2 x3 x4 x6 x7)) else m_checkFields_326 fu k277 σ x1 x2 x3 x4 x6 x7))
noncomputable def m_checkFields_277L (fu : Nat) (k22 : SM → Int32 → Int32 → Int32 → Int32 → Option (Int32 × SM)) (n : Nat) : SM → Int32 → Int32 → Int32 → Int32 → Int32 → Int32 → Option (Int32 × SM) := lpF (F := SM → Int32 → Int32 → Int32 → Int32 → Int32 → Int32 → Option (Int32 × SM)) (fun _ _ _ _ _ _ _ => none) (fun k => m_checkFields_277 fu k22 k) n
noncomputable def m_checkFields_92 (fu : Nat) (k22 : SM → Int32 → Int32 → Int32 → Int32 → Option (Int32 × SM)) (σ : SM) (x1 : Int32) (x2 : Int32) (x3 : Int32) (x4 : Int32) (x5 : Int32) : Option (Int32 × SM) :=
  (m_u2 σ (x1 + (2 : Int32))).bind fun r1 => (m_tag σ r1).bind fun r3 => if r3 = (1 : Int32) then (m_u2 σ (x1 + (2 : Int32))).bind fun r6 => (m_symOf σ r6).bind fun r8 => (m_unqualified fu σ r8 (1 : Int32)).bind fun r10 => if r10 = 0 then m_checkFields_126 fu σ x1 else (m_u2 σ (x1 + (4 : Int32))).bind fun r13 => (m_tag σ r13).bind fun r15 => if r15 = (1 : Int32) then (m_u2 σ (x1 + (4 : Int32))).bind fun r18 => (m_symOf σ r18).bind fun r20 => (m_isField fu σ r20).bind fun r22 => if r22 = 0 then m_checkFields_169 fu σ x1 else nx (σ.1 25) fun y25 => ckIn y25 8300 (nx (sa σ 27 y25.toNatClampNeg x5) fun s27 => (m_u2 s27 (x1 + (2 : Int32))).bind fun r28 => (m_symOf s27 r28).bind fun r30 => ckIn y25 8300 (nx (sa s27 28 y25.toNatClampNeg r30) fun s33 => (m_u2 s33 (x1 + (4 : Int32))).bind fun r34 => (m_symOf s33 r34).bind fun r36 => ckIn y25 8300 (nx (sa s33 29 y25.toNatClampNeg r36) fun s39 => ckIn y25 8300 (nx (sa s39 30 y25.toNatClampNeg (0 : Int32)) fun s41 => ckIn y25 8300 (nx (sa s41 31 y25.toNatClampNeg (0 : Int32)) fun s43 => (m_u2 s43 (x1 + (2 : Int32))).bind fun r44 => ckIn y25 8300 (nx (sa s43 32 y25.toNatClampNeg r44) fun s47 => (m_u2 s47 (x1 + (4 : Int32))).bind fun r48 => ckIn y25 8300 (nx (sa s47 33 y25.toNatClampNeg r48) fun s51 => m_checkFields_277L fu k22 fu s51 x1 x2 x3 x4 y25 x3))))))) else m_checkFields_169 fu σ x1 else m_checkFields_126 fu σ x1
noncomputable def m_checkFields_62 (fu : Nat) (k22 : SM → Int32 → Int32 → Int32 → Int32 → Option (Int32 × SM)) (σ : SM) (x1 : Int32) (x2 : Int32) (x3 : Int32) (x4 : Int32) (x5 : Int32) : Option (Int32 × SM) :=
  if ((σ.1 58) &&& (512 : Int32)) = 0 then m_checkFields_92 fu k22 σ x1 x2 x3 x4 x5 else if (x5 &&& (16607 : Int32)) = (25 : Int32) then m_checkFields_92 fu k22 σ x1 x2 x3 x4 x5 else m_checkFields_84 fu σ x1
noncomputable def m_checkFields_22 (fu : Nat) (k22 : SM → Int32 → Int32 → Int32 → Int32 → Option (Int32 × SM)) (σ : SM) (x1 : Int32) (x2 : Int32) (x3 : Int32) (x4 : Int32) : Option (Int32 × SM) :=
  if x2 ≤ x4 then some ((1 : Int32), σ) else (m_u2 σ x1).bind fun r2 => (m_several r2 (1 : Int32) (2 : Int32) (4 : Int32)).bind fun r4 => if r4 = 0 then if (r2 &&& (16 : Int32)) = 0 then m_checkFields_62 fu k22 σ x1 x2 x3 x4 r2 else if (r2 &&& (64 : Int32)) = 0 then m_checkFields_62 fu k22 σ x1 x2 x3 x4 r2 else m_checkFields_84 fu σ x1 else m_checkFields_84 fu σ x1
noncomputable def m_checkFields_22L (fu : Nat) (n : Nat) : SM → Int32 → Int32 → Int32 → Int32 → Option (Int32 × SM) := lpF (F := SM → Int32 → Int32 → Int32 → Int32 → Option (Int32 × SM)) (fun _ _ _ _ _ => none) (fun k => m_checkFields_22 fu k) n
noncomputable def m_checkFields_0 (fu : Nat) (σ : SM) : Option (Int32 × SM) :=
  nx (σ.1 55) fun y1 => (m_u2 σ y1).bind fun r2 => nx (y1 + (2 : Int32)) fun y4 => nx (σ.1 25) fun y5 => m_checkFields_22L fu fu σ y4 r2 y5 (0 : Int32)
noncomputable def m_checkFields (fu : Nat) (σ : SM) : Option (Int32 × SM) := m_checkFields_0 fu σ
noncomputable def m_flagsFit_26 (σ : SM) : Option Int32 :=
  some (0 : Int32)
noncomputable def m_flagsFit_100 (σ : SM) : Option Int32 :=
  some (0 : Int32)
noncomputable def m_flagsFit_172 (σ : SM) (x4 : Int32) : Option Int32 :=
  if x4 = 0 then some (1 : Int32) else some (0 : Int32)
noncomputable def m_flagsFit_167 (σ : SM) (x4 : Int32) (t0 : Int32) (t1 : Int32) : Option Int32 :=
  if t1 = t0 then some (0 : Int32) else m_flagsFit_172 σ x4
noncomputable def m_flagsFit_156 (σ : SM) (x1 : Int32) (x4 : Int32) (t0 : Int32) : Option Int32 :=
  if (x1 &&& (2 : Int32)) = 0 then m_flagsFit_167 σ x4 (0 : Int32) t0 else m_flagsFit_167 σ x4 (1 : Int32) t0
noncomputable def m_flagsFit_75 (σ : SM) (x1 : Int32) (x3 : Int32) (t0 : Int32) : Option Int32 :=
  if x3 = 0 then (m_several x1 (1 : Int32) (2 : Int32) (4 : Int32)).bind fun r8 => if r8 = 0 then if t0 = 0 then some (1 : Int32) else m_flagsFit_100 σ else m_flagsFit_100 σ else if (x1 &&& (308 : Int32)) = 0 then if (52 : Int32) ≤ (σ.1 53) then if (x1 &&& (1 : Int32)) = 0 then m_flagsFit_156 σ x1 t0 (0 : Int32) else m_flagsFit_156 σ x1 t0 (1 : Int32) else if (x1 &&& (1 : Int32)) = 0 then some (0 : Int32) else if (x1 &&& (1024 : Int32)) = 0 then some (0 : Int32) else if (x1 &&& (8 : Int32)) = 0 then m_flagsFit_172 σ t0 else some (0 : Int32) else some (0 : Int32)
noncomputable def m_flagsFit_70 (σ : SM) (x1 : Int32) (x3 : Int32) : Option Int32 :=
  m_flagsFit_75 σ x1 x3 (1 : Int32)
noncomputable def m_flagsFit_74 (σ : SM) (x1 : Int32) (x3 : Int32) : Option Int32 :=
  m_flagsFit_75 σ x1 x3 (0 : Int32)
noncomputable def m_flagsFit_0 (σ : SM) (x1 : Int32) (x2 : Int32) (x3 : Int32) : Option Int32 :=
  if x2 = 0 then if (x1 &&& (1024 : Int32)) = 0 then m_flagsFit_74 σ x1 x3 else if (x1 &&& (314 : Int32)) = 0 then if (σ.1 53) < (46 : Int32) then m_flagsFit_74 σ x1 x3 else if (60 : Int32) < (σ.1 53) then m_flagsFit_74 σ x1 x3 else if (x1 &&& (2048 : Int32)) = 0 then m_flagsFit_74 σ x1 x3 else m_flagsFit_70 σ x1 x3 else m_flagsFit_70 σ x1 x3 else (m_several x1 (1 : Int32) (2 : Int32) (4 : Int32)).bind fun r7 => if r7 = 0 then if (x1 &&& (1400 : Int32)) = 0 then some (1 : Int32) else m_flagsFit_26 σ else m_flagsFit_26 σ
noncomputable def m_flagsFit (σ : SM) (x1 : Int32) (x2 : Int32) (x3 : Int32) : Option Int32 := m_flagsFit_0 σ x1 x2 x3
noncomputable def m_checkMethods_147 (fu : Nat) (σ : SM) (x1 : Int32) : Option (Int32 × SM) :=
  (m_wrong σ (24 : Int32) (x1 + (2 : Int32))).bind fun r1 => ckN .boolean r1.1 (some (r1.1, r1.2))
noncomputable def m_checkMethods_269 (fu : Nat) (σ : SM) (x1 : Int32) : Option (Int32 × SM) :=
  (m_wrong σ (25 : Int32) (x1 + (4 : Int32))).bind fun r1 => ckN .boolean r1.1 (some (r1.1, r1.2))
noncomputable def m_checkMethods_438 (fu : Nat) (k399 : SM → Int32 → Int32 → Int32 → Int32 → Int32 → Int32 → Int32 → Int32 → Int32 → Int32 → Int32 → Option (Int32 × SM)) (σ : SM) (x1 : Int32) (x2 : Int32) (x3 : Int32) (x4 : Int32) (x5 : Int32) (x6 : Int32) (x7 : Int32) (x9 : Int32) (x10 : Int32) (x11 : Int32) (x12 : Int32) : Option (Int32 × SM) :=
  nx (x12 + (1 : Int32)) fun y1 => k399 σ x1 x2 x3 x4 x5 x6 x7 x9 x10 x11 y1
noncomputable def m_checkMethods_510 (fu : Nat) (k40 : SM → Int32 → Int32 → Int32 → Int32 → Int32 → Option (Int32 × SM)) (σ : SM) (x1 : Int32) (x2 : Int32) (x3 : Int32) (x4 : Int32) (x5 : Int32) (x12 : Int32) (x13 : Int32) (t0 : Int32) : Option (Int32 × SM) :=
  if t0 = x13 then nx (x5 + (1 : Int32)) fun y2 => k40 σ x12 x2 x3 x4 y2 else (m_wrong σ (27 : Int32) x1).bind fun r3 => ckN .boolean r3.1 (some (r3.1, r3.2))
noncomputable def m_checkMethods_493 (fu : Nat) (k40 : SM → Int32 → Int32 → Int32 → Int32 → Int32 → Option (Int32 × SM)) (σ : SM) (x1 : Int32) (x2 : Int32) (x3 : Int32) (x4 : Int32) (x5 : Int32) (x11 : Int32) (x12 : Int32) (t0 : Int32) : Option (Int32 × SM) :=
  ckIn x11 8300 (if 0 ≤ (σ.2 37 x11.toNatClampNeg) then m_checkMethods_510 fu k40 σ x1 x2 x3 x4 x5 x12 t0 (0 : Int32) else m_checkMethods_510 fu k40 σ x1 x2 x3 x4 x5 x12 t0 (1 : Int32))
noncomputable def m_checkMethods_492 (fu : Nat) (k40 : SM → Int32 → Int32 → Int32 → Int32 → Int32 → Option (Int32 × SM)) (σ : SM) (x1 : Int32) (x2 : Int32) (x3 : Int32) (x4 : Int32) (x5 : Int32) (x11 : Int32) (x12 : Int32) : Option (Int32 × SM) :=
  m_checkMethods_493 fu k40 σ x1 x2 x3 x4 x5 x11 x12 (0 : Int32)
noncomputable def m_checkMethods_399 (fu : Nat) (k40 : SM → Int32 → Int32 → Int32 → Int32 → Int32 → Option (Int32 × SM)) (k399 : SM → Int32 → Int32 → Int32 → Int32 → Int32 → Int32 → Int32 → Int32 → Int32 → Int32 → Int32 → Option (Int32 × SM)) (σ : SM) (x1 : Int32) (x2 : Int32) (x3 : Int32) (x4 : Int32) (x5 : Int32) (x6 : Int32) (x7 : Int32) (x9 : Int32) (x10 : Int32) (x11 : Int32) (x12 : Int32) : Option (Int32 × SM) :=
  if x11 ≤ x12 then nx (sf σ 26 ((σ.1 26) + (1 : Int32))) fun s2 => (m_checkAttributes fu s2 (x1 + (6 : Int32)) (2 : Int32) x11).bind fun r3 => nx r3.1 fun y5 => if 0 ≤ y5 then if (x6 &&& (1280 : Int32)) = 0 then m_checkMethods_492 fu k40 r3.2 x1 x2 x3 x4 x5 x11 y5 else if x9 = 0 then m_checkMethods_493 fu k40 r3.2 x1 x2 x3 x4 x5 x11 y5 (1 : Int32) else m_checkMethods_492 fu k40 r3.2 x1 x2 x3 x4 x5 x11 y5 else some ((0 : Int32), r3.2) else ckIn x12 8300 (if (σ.2 35 x12.toNatClampNeg) = x7 then ckIn x12 8300 (if (σ.2 36 x12.toNatClampNeg) = x10 then (m_wrong σ (26 : Int32) x1).bind fun r13 => ckN .boolean r13.1 (some (r13.1, r13.2)) else m_checkMethods_438 fu k399 σ x1 x2 x3 x4 x5 x6 x7 x9 x10 x11 x12) else m_checkMethods_438 fu k399 σ x1 x2 x3 x4 x5 x6 x7 x9 x10 x11 x12)
noncomputable def m_checkMethods_399L (fu : Nat) (k40 : SM → Int32 → Int32 → Int32 → Int32 → Int32 → Option (Int32 × SM)) (n : Nat) : SM → Int32 → Int32 → Int32 → Int32 → Int32 → Int32 → Int32 → Int32 → Int32 → Int32 → Int32 → Option (Int32 × SM) := lpF (F := SM → Int32 → Int32 → Int32 → Int32 → Int32 → Int32 → Int32 → Int32 → Int32 → Int32 → Int32 → Option (Int32 × SM)) (fun _ _ _ _ _ _ _ _ _ _ _ _ => none) (fun k => m_checkMethods_399 fu k40 k) n
noncomputable def m_checkMethods_262 (fu : Nat) (k40 : SM → Int32 → Int32 → Int32 → Int32 → Int32 → Option (Int32 × SM)) (σ : SM) (x1 : Int32) (x2 : Int32) (x3 : Int32) (x4 : Int32) (x5 : Int32) (x6 : Int32) (x7 : Int32) (x9 : Int32) (x10 : Int32) (t0 : Int32) (t1 : Int32) : Option (Int32 × SM) :=
  if (t1 + t0) ≤ (255 : Int32) then nx (σ.1 26) fun y2 => ckIn y2 8300 (nx (sa σ 34 y2.toNatClampNeg x6) fun s4 => ckIn y2 8300 (nx (sa s4 35 y2.toNatClampNeg x7) fun s6 => ckIn y2 8300 (nx (sa s6 36 y2.toNatClampNeg x10) fun s8 => ckIn y2 8300 (nx (sa s8 37 y2.toNatClampNeg (-1 : Int32)) fun s10 => ckIn y2 8300 (nx (sa s10 38 y2.toNatClampNeg (0 : Int32)) fun s12 => ckIn y2 8300 (nx (sa s12 39 y2.toNatClampNeg (0 : Int32)) fun s14 => ckIn y2 8300 (nx (sa s14 40 y2.toNatClampNeg (0 : Int32)) fun s16 => ckIn y2 8300 (nx (sa s16 42 y2.toNatClampNeg (0 : Int32)) fun s18 => ckIn y2 8300 (nx (sa s18 43 y2.toNatClampNeg (0 : Int32)) fun s20 => ckIn y2 8300 (nx (sa s20 44 y2.toNatClampNeg (0 : Int32)) fun s22 => (m_u2 s22 (x1 + (2 : Int32))).bind fun r23 => ckIn y2 8300 (nx (sa s22 45 y2.toNatClampNeg r23) fun s26 => (m_u2 s26 (x1 + (4 : Int32))).bind fun r27 => ckIn y2 8300 (nx (sa s26 46 y2.toNatClampNeg r27) fun s30 => m_checkMethods_399L fu k40 fu s30 x1 x2 x3 x4 x5 x6 x7 x9 x10 y2 x3)))))))))))) else m_checkMethods_269 fu σ x1
noncomputable def m_checkMethods_243 (fu : Nat) (k40 : SM → Int32 → Int32 → Int32 → Int32 → Int32 → Option (Int32 × SM)) (σ : SM) (x1 : Int32) (x2 : Int32) (x3 : Int32) (x4 : Int32) (x5 : Int32) (x6 : Int32) (x7 : Int32) (x9 : Int32) (x10 : Int32) : Option (Int32 × SM) :=
  (m_places0 fu σ x10).bind fun r1 => if (x6 &&& (8 : Int32)) = 0 then m_checkMethods_262 fu k40 σ x1 x2 x3 x4 x5 x6 x7 x9 x10 (1 : Int32) r1 else m_checkMethods_262 fu k40 σ x1 x2 x3 x4 x5 x6 x7 x9 x10 (0 : Int32) r1
noncomputable def m_checkMethods_213 (fu : Nat) (k40 : SM → Int32 → Int32 → Int32 → Int32 → Int32 → Option (Int32 × SM)) (σ : SM) (x1 : Int32) (x2 : Int32) (x3 : Int32) (x4 : Int32) (x5 : Int32) (x6 : Int32) (x7 : Int32) (x8 : Int32) (x9 : Int32) (t0 : Int32) : Option (Int32 × SM) :=
  if t0 < 0 then m_checkMethods_269 fu σ x1 else (m_isMethod fu σ t0).bind fun r2 => if r2 = 0 then m_checkMethods_269 fu σ x1 else if x8 = 0 then m_checkMethods_243 fu k40 σ x1 x2 x3 x4 x5 x6 x7 x9 t0 else (m_endsV σ t0).bind fun r6 => if r6 = 0 then m_checkMethods_269 fu σ x1 else m_checkMethods_243 fu k40 σ x1 x2 x3 x4 x5 x6 x7 x9 t0
noncomputable def m_checkMethods_183 (fu : Nat) (k40 : SM → Int32 → Int32 → Int32 → Int32 → Int32 → Option (Int32 × SM)) (σ : SM) (x1 : Int32) (x2 : Int32) (x3 : Int32) (x4 : Int32) (x5 : Int32) (x6 : Int32) (x7 : Int32) (x8 : Int32) (x9 : Int32) : Option (Int32 × SM) :=
  (m_u2 σ (x1 + (4 : Int32))).bind fun r1 => (m_tag σ r1).bind fun r3 => if r3 = (1 : Int32) then (m_u2 σ (x1 + (4 : Int32))).bind fun r6 => (m_symOf σ r6).bind fun r8 => m_checkMethods_213 fu k40 σ x1 x2 x3 x4 x5 x6 x7 x8 x9 r8 else m_checkMethods_213 fu k40 σ x1 x2 x3 x4 x5 x6 x7 x8 x9 (-1 : Int32)
noncomputable def m_checkMethods_157 (fu : Nat) (k40 : SM → Int32 → Int32 → Int32 → Int32 → Int32 → Option (Int32 × SM)) (σ : SM) (x1 : Int32) (x2 : Int32) (x3 : Int32) (x4 : Int32) (x5 : Int32) (x6 : Int32) (x7 : Int32) (x8 : Int32) (x9 : Int32) : Option (Int32 × SM) :=
  if x9 = 0 then (m_flagsFit σ x6 x8 x4).bind fun r2 => if r2 = 0 then (m_wrong σ (23 : Int32) x1).bind fun r5 => ckN .boolean r5.1 (some (r5.1, r5.2)) else m_checkMethods_183 fu k40 σ x1 x2 x3 x4 x5 x6 x7 x8 x9 else m_checkMethods_183 fu k40 σ x1 x2 x3 x4 x5 x6 x7 x8 x9
noncomputable def m_checkMethods_137 (fu : Nat) (k40 : SM → Int32 → Int32 → Int32 → Int32 → Int32 → Option (Int32 × SM)) (σ : SM) (x1 : Int32) (x2 : Int32) (x3 : Int32) (x4 : Int32) (x5 : Int32) (x6 : Int32) (x7 : Int32) (x8 : Int32) (x9 : Int32) : Option (Int32 × SM) :=
  (m_unqualified fu σ x7 (0 : Int32)).bind fun r1 => if r1 = 0 then m_checkMethods_147 fu σ x1 else m_checkMethods_157 fu k40 σ x1 x2 x3 x4 x5 x6 x7 x8 x9
noncomputable def m_checkMethods_115 (fu : Nat) (k40 : SM → Int32 → Int32 → Int32 → Int32 → Int32 → Option (Int32 × SM)) (σ : SM) (x1 : Int32) (x2 : Int32) (x3 : Int32) (x4 : Int32) (x5 : Int32) (x6 : Int32) (x7 : Int32) (x8 : Int32) (t0 : Int32) : Option (Int32 × SM) :=
  if x7 < 0 then m_checkMethods_147 fu σ x1 else if t0 = 0 then if x8 = 0 then m_checkMethods_137 fu k40 σ x1 x2 x3 x4 x5 x6 x7 x8 t0 else if x4 = 0 then m_checkMethods_157 fu k40 σ x1 x2 x3 x4 x5 x6 x7 x8 t0 else m_checkMethods_137 fu k40 σ x1 x2 x3 x4 x5 x6 x7 x8 t0 else m_checkMethods_157 fu k40 σ x1 x2 x3 x4 x5 x6 x7 x8 t0
noncomputable def m_checkMethods_99 (fu : Nat) (k40 : SM → Int32 → Int32 → Int32 → Int32 → Int32 → Option (Int32 × SM)) (σ : SM) (x1 : Int32) (x2 : Int32) (x3 : Int32) (x4 : Int32) (x5 : Int32) (x6 : Int32) (x7 : Int32) (t0 : Int32) : Option (Int32 × SM) :=
  if x7 = (σ.1 10) then m_checkMethods_115 fu k40 σ x1 x2 x3 x4 x5 x6 x7 t0 (1 : Int32) else m_checkMethods_115 fu k40 σ x1 x2 x3 x4 x5 x6 x7 t0 (0 : Int32)
noncomputable def m_checkMethods_83 (fu : Nat) (k40 : SM → Int32 → Int32 → Int32 → Int32 → Int32 → Option (Int32 × SM)) (σ : SM) (x1 : Int32) (x2 : Int32) (x3 : Int32) (x4 : Int32) (x5 : Int32) (x6 : Int32) (t0 : Int32) : Option (Int32 × SM) :=
  if t0 = (σ.1 9) then m_checkMethods_99 fu k40 σ x1 x2 x3 x4 x5 x6 t0 (1 : Int32) else m_checkMethods_99 fu k40 σ x1 x2 x3 x4 x5 x6 t0 (0 : Int32)
noncomputable def m_checkMethods_40 (fu : Nat) (k40 : SM → Int32 → Int32 → Int32 → Int32 → Int32 → Option (Int32 × SM)) (σ : SM) (x1 : Int32) (x2 : Int32) (x3 : Int32) (x4 : Int32) (x5 : Int32) : Option (Int32 × SM) :=
  if x2 ≤ x5 then some ((1 : Int32), σ) else (m_u2 σ x1).bind fun r2 => (m_u2 σ (x1 + (2 : Int32))).bind fun r4 => (m_tag σ r4).bind fun r6 => if r6 = (1 : Int32) then (m_u2 σ (x1 + (2 : Int32))).bind fun r9 => (m_symOf σ r9).bind fun r11 => m_checkMethods_83 fu k40 σ x1 x2 x3 x4 x5 r2 r11 else m_checkMethods_83 fu k40 σ x1 x2 x3 x4 x5 r2 (-1 : Int32)
noncomputable def m_checkMethods_40L (fu : Nat) (n : Nat) : SM → Int32 → Int32 → Int32 → Int32 → Int32 → Option (Int32 × SM) := lpF (F := SM → Int32 → Int32 → Int32 → Int32 → Int32 → Option (Int32 × SM)) (fun _ _ _ _ _ _ => none) (fun k => m_checkMethods_40 fu k) n
noncomputable def m_checkMethods_35 (fu : Nat) (σ : SM) (x1 : Int32) (x2 : Int32) (x3 : Int32) (t0 : Int32) : Option (Int32 × SM) :=
  m_checkMethods_40L fu fu σ x1 x2 x3 t0 (0 : Int32)
noncomputable def m_checkMethods_0 (fu : Nat) (σ : SM) : Option (Int32 × SM) :=
  nx (σ.1 56) fun y1 => (m_u2 σ y1).bind fun r2 => nx (y1 + (2 : Int32)) fun y4 => nx (σ.1 26) fun y5 => if ((σ.1 58) &&& (512 : Int32)) = 0 then m_checkMethods_35 fu σ y4 r2 y5 (0 : Int32) else m_checkMethods_35 fu σ y4 r2 y5 (1 : Int32)
noncomputable def m_checkMethods (fu : Nat) (σ : SM) : Option (Int32 × SM) := m_checkMethods_0 fu σ
noncomputable def m_checkFile_151 (fu : Nat) (k94 : SM → Int32 → Option (Int32 × SM)) (σ : SM) (x1 : Int32) : Option (Int32 × SM) :=
  nx (x1 + (1 : Int32)) fun y1 => k94 σ y1
noncomputable def m_checkFile_120 (fu : Nat) (k94 : SM → Int32 → Option (Int32 × SM)) (σ : SM) (x1 : Int32) : Option (Int32 × SM) :=
  (m_index σ x1 (1 : Int32)).bind fun r1 => if r1 < (σ.1 71) then m_checkFile_151 fu k94 σ x1 else ckIn ((σ.1 51) + x1) 65540 ((m_wrong σ (40 : Int32) (σ.2 21 ((σ.1 51) + x1).toNatClampNeg)).bind fun r5 => ckN .boolean r5.1 (some (r5.1, r5.2)))
noncomputable def m_checkFile_94 (fu : Nat) (k94 : SM → Int32 → Option (Int32 × SM)) (σ : SM) (x1 : Int32) : Option (Int32 × SM) :=
  if (σ.1 52) ≤ x1 then some ((1 : Int32), σ) else (m_tag σ x1).bind fun r2 => if r2 = (17 : Int32) then m_checkFile_120 fu k94 σ x1 else if r2 = (18 : Int32) then m_checkFile_120 fu k94 σ x1 else m_checkFile_151 fu k94 σ x1
noncomputable def m_checkFile_94L (fu : Nat) (n : Nat) : SM → Int32 → Option (Int32 × SM) := lpF (F := SM → Int32 → Option (Int32 × SM)) (fun _ _ => none) (fun k => m_checkFile_94 fu k) n
noncomputable def m_checkFile_0 (fu : Nat) (σ : SM) : Option (Int32 × SM) :=
  nx (sf σ 67 (-1 : Int32)) fun s1 => nx (sf s1 68 (0 : Int32)) fun s2 => nx (sf s2 69 (0 : Int32)) fun s3 => nx (sf s3 65 (0 : Int32)) fun s4 => nx (sf s4 66 (0 : Int32)) fun s5 => nx (sf s5 70 (-1 : Int32)) fun s6 => nx (sf s6 71 (0 : Int32)) fun s7 => nx (sf s7 72 (-1 : Int32)) fun s8 => (m_readFile fu s8).bind fun r9 => if r9.1 = 0 then some ((0 : Int32), r9.2) else (m_checkPool fu r9.2).bind fun r12 => if r12.1 = 0 then some ((0 : Int32), r12.2) else (m_checkClass fu r12.2).bind fun r15 => if r15.1 = 0 then some ((0 : Int32), r15.2) else (m_checkFields fu r15.2).bind fun r18 => if r18.1 = 0 then some ((0 : Int32), r18.2) else (m_checkMethods fu r18.2).bind fun r21 => if r21.1 = 0 then some ((0 : Int32), r21.2) else (m_checkAttributes fu r21.2 (r21.2.1 57) (4 : Int32) (0 : Int32)).bind fun r24 => if 0 ≤ r24.1 then m_checkFile_94L fu fu r24.2 (1 : Int32) else some ((0 : Int32), r24.2)
noncomputable def m_checkFile (fu : Nat) (σ : SM) : Option (Int32 × SM) := m_checkFile_0 fu σ
noncomputable def m_parse_13_11 (fu : Nat) (k11 : SM → Int32 → Int32 → Option (Int32 × SM)) (σ : SM) (x2 : Int32) (x3 : Int32) : Option (Int32 × SM) :=
  if x2 ≤ x3 then (m_checkFile fu σ).bind fun r2 => ckN .boolean r2.1 (some (r2.1, r2.2)) else ckIn x3 65560 (ckIn x3 65600 (nx (sa σ 12 x3.toNatClampNeg (vp_nar .byte (σ.2 13 x3.toNatClampNeg))) fun s7 => nx (x3 + (1 : Int32)) fun y8 => k11 s7 x2 y8))
noncomputable def m_parse_13_11L (fu : Nat) (n : Nat) : SM → Int32 → Int32 → Option (Int32 × SM) := lpF (F := SM → Int32 → Int32 → Option (Int32 × SM)) (fun _ _ _ => none) (fun k => m_parse_13_11 fu k) n
noncomputable def m_parse_13_0 (fu : Nat) (σ : SM) (x2 : Int32) : Option (Int32 × SM) :=
  (m_clear fu σ).bind fun r1 => nx (sf r1 16 x2) fun s3 => m_parse_13_11L fu fu s3 x2 (0 : Int32)
noncomputable def m_parse_13 (fu : Nat) (σ : SM) (x2 : Int32) : Option (Int32 × SM) := m_parse_13_0 fu σ x2
noncomputable def m_parse_14_11 (fu : Nat) (k11 : SM → Int32 → Int32 → Option (Int32 × SM)) (σ : SM) (x2 : Int32) (x3 : Int32) : Option (Int32 × SM) :=
  if x2 ≤ x3 then (m_checkFile fu σ).bind fun r2 => ckN .boolean r2.1 (some (r2.1, r2.2)) else ckIn x3 65560 (ckIn x3 65600 (nx (sa σ 12 x3.toNatClampNeg (vp_nar .byte (σ.2 14 x3.toNatClampNeg))) fun s7 => nx (x3 + (1 : Int32)) fun y8 => k11 s7 x2 y8))
noncomputable def m_parse_14_11L (fu : Nat) (n : Nat) : SM → Int32 → Int32 → Option (Int32 × SM) := lpF (F := SM → Int32 → Int32 → Option (Int32 × SM)) (fun _ _ _ => none) (fun k => m_parse_14_11 fu k) n
noncomputable def m_parse_14_0 (fu : Nat) (σ : SM) (x2 : Int32) : Option (Int32 × SM) :=
  (m_clear fu σ).bind fun r1 => nx (sf r1 16 x2) fun s3 => m_parse_14_11L fu fu s3 x2 (0 : Int32)
noncomputable def m_parse_14 (fu : Nat) (σ : SM) (x2 : Int32) : Option (Int32 × SM) := m_parse_14_0 fu σ x2
noncomputable def m_read_110 (fu : Nat) (σ : SM) (x2 : Int32) : Option (Int32 × SM) :=
  nx (sf σ 74 (-1 : Int32)) fun s1 => nx (sf s1 17 (0 : Int32)) fun s2 => some (x2, s2)
noncomputable def m_read_53 (fu : Nat) (k53 : SM → Int32 → Int32 → Option (Int32 × SM)) (σ : SM) (x2 : Int32) (x3 : Int32) : Option (Int32 × SM) :=
  if (σ.1 17) ≤ x3 then nx (sf σ 18 (σ.1 17)) fun s2 => m_read_110 fu s2 x2 else ckIn x3 65560 (ckIn x3 65560 (nx (sa σ 14 x3.toNatClampNeg (vp_nar .byte (σ.2 13 x3.toNatClampNeg))) fun s5 => nx (x3 + (1 : Int32)) fun y6 => k53 s5 x2 y6))
noncomputable def m_read_53L (fu : Nat) (n : Nat) : SM → Int32 → Int32 → Option (Int32 × SM) := lpF (F := SM → Int32 → Int32 → Option (Int32 × SM)) (fun _ _ _ => none) (fun k => m_read_53 fu k) n
noncomputable def m_read_46 (fu : Nat) (σ : SM) (x1 : Int32) (t0 : Int32) : Option (Int32 × SM) :=
  if x1 = 0 then if (σ.1 18) < 0 then m_read_110 fu σ t0 else (m_parse_14 fu σ (σ.1 18)).bind fun r3 => m_read_110 fu r3.2 t0 else m_read_53L fu fu σ t0 (0 : Int32)
noncomputable def m_read_31 (fu : Nat) (σ : SM) (x1 : Int32) (t0 : Int32) : Option (Int32 × SM) :=
  nx (sf σ 73 t0) fun s1 => if x1 = 0 then m_read_46 fu s1 x1 (s1.1 47) else m_read_46 fu s1 x1 (0 : Int32)
noncomputable def m_read_0 (fu : Nat) (σ : SM) : Option (Int32 × SM) :=
  nx (sf σ 0 (0 : Int32)) fun s1 => (m_parse_13 fu s1 (s1.1 17)).bind fun r2 => nx r2.1 fun y4 => if y4 = 0 then m_read_31 fu r2.2 y4 (r2.2.1 48) else m_read_31 fu r2.2 y4 (-1 : Int32)
noncomputable def m_read (fu : Nat) (σ : SM) : Option (Int32 × SM) := m_read_0 fu σ
noncomputable def m_place_0 (σ : SM) : Option (Int32 × SM) :=
  nx (sf σ 0 (0 : Int32)) fun s1 => some (s1.1 73, s1)
noncomputable def m_place (σ : SM) : Option (Int32 × SM) := m_place_0 σ
noncomputable def m_count_15 (fu : Nat) (σ : SM) : Option (Int32 × SM) :=
  (m_bad σ).bind fun r1 => some (r1.1, r1.2)
noncomputable def m_count_205 (fu : Nat) (k176 : SM → Int32 → Int32 → Option (Int32 × SM)) (σ : SM) (x2 : Int32) (x3 : Int32) : Option (Int32 × SM) :=
  nx (x3 + (1 : Int32)) fun y1 => k176 σ x2 y1
noncomputable def m_count_176 (fu : Nat) (k176 : SM → Int32 → Int32 → Option (Int32 × SM)) (σ : SM) (x2 : Int32) (x3 : Int32) : Option (Int32 × SM) :=
  if (σ.1 52) ≤ x3 then some (x2, σ) else (m_tag σ x3).bind fun r2 => if r2 = (1 : Int32) then (m_symOf σ x3).bind fun r5 => (m_length σ r5).bind fun r7 => nx (x2 + r7) fun y9 => m_count_205 fu k176 σ y9 x3 else m_count_205 fu k176 σ x2 x3
noncomputable def m_count_176L (fu : Nat) (n : Nat) : SM → Int32 → Int32 → Option (Int32 × SM) := lpF (F := SM → Int32 → Int32 → Option (Int32 × SM)) (fun _ _ _ => none) (fun k => m_count_176 fu k) n
noncomputable def m_count_0 (fu : Nat) (σ : SM) (x1 : Int32) : Option (Int32 × SM) :=
  nx (sf σ 0 (0 : Int32)) fun s1 => if x1 < 0 then m_count_15 fu s1 else if x1 ≤ (15 : Int32) then if 0 ≤ (s1.1 18) then if x1 = (0 : Int32) then some (s1.1 52, s1) else if x1 = (1 : Int32) then some (s1.1 25, s1) else if x1 = (2 : Int32) then some (s1.1 26, s1) else if x1 = (3 : Int32) then some (s1.1 61, s1) else if x1 = (4 : Int32) then some (s1.1 71, s1) else if x1 = (5 : Int32) then some (s1.1 66, s1) else if x1 = (6 : Int32) then some (s1.1 58, s1) else if x1 = (7 : Int32) then some (s1.1 53, s1) else if x1 = (8 : Int32) then (m_u2 s1 (4 : Int32)).bind fun r14 => some (r14, s1) else if x1 = (9 : Int32) then (m_u2 s1 ((s1.1 54) + (2 : Int32))).bind fun r17 => some (r17, s1) else if x1 = (10 : Int32) then (m_u2 s1 ((s1.1 54) + (4 : Int32))).bind fun r20 => some (r20, s1) else if x1 = (11 : Int32) then m_count_176L fu fu s1 (0 : Int32) (1 : Int32) else if x1 = (12 : Int32) then some (s1.1 65, s1) else if x1 = (13 : Int32) then some (s1.1 68, s1) else if x1 = (14 : Int32) then some (s1.1 69, s1) else some (s1.1 72, s1) else some ((-1 : Int32), s1) else m_count_15 fu s1
noncomputable def m_count (fu : Nat) (σ : SM) (x1 : Int32) : Option (Int32 × SM) := m_count_0 fu σ x1
noncomputable def m_entry_14 (σ : SM) : Option (Int32 × SM) :=
  (m_bad σ).bind fun r1 => some (r1.1, r1.2)
noncomputable def m_entry_115 (σ : SM) (x1 : Int32) (x2 : Int32) : Option (Int32 × SM) :=
  if x2 = (1 : Int32) then (m_index σ x1 (1 : Int32)).bind fun r2 => some (r2, σ) else some ((0 : Int32), σ)
noncomputable def m_entry_167 (σ : SM) (t0 : Int32) (t1 : Int32) : Option (Int32 × SM) :=
  (m_index σ t1 t0).bind fun r1 => some (r1, σ)
noncomputable def m_entry_155 (σ : SM) (x1 : Int32) (x2 : Int32) : Option (Int32 × SM) :=
  if x2 = (1 : Int32) then m_entry_167 σ (1 : Int32) x1 else m_entry_167 σ (3 : Int32) x1
noncomputable def m_entry_143 (σ : SM) (x1 : Int32) (x2 : Int32) (x3 : Int32) : Option (Int32 × SM) :=
  if x3 = (17 : Int32) then m_entry_155 σ x1 x2 else if x3 = (18 : Int32) then m_entry_155 σ x1 x2 else some ((0 : Int32), σ)
noncomputable def m_entry_0 (σ : SM) (x1 : Int32) (x2 : Int32) : Option (Int32 × SM) :=
  nx (sf σ 0 (0 : Int32)) fun s1 => if x2 < 0 then m_entry_14 s1 else if x2 ≤ (2 : Int32) then if (s1.1 18) < 0 then some ((-1 : Int32), s1) else if x1 < 0 then some ((-1 : Int32), s1) else if x1 < (s1.1 52) then (m_tag s1 x1).bind fun r7 => if x2 = 0 then some (r7, s1) else if r7 = (15 : Int32) then if x2 = (1 : Int32) then ckIn x1 65540 ((m_u1 s1 ((s1.2 21 x1.toNatClampNeg) + (1 : Int32))).bind fun r22 => some (r22, s1)) else (m_index s1 x1 (2 : Int32)).bind fun r19 => some (r19, s1) else if r7 = (7 : Int32) then m_entry_115 s1 x1 x2 else if r7 = (8 : Int32) then m_entry_115 s1 x1 x2 else if r7 = (16 : Int32) then m_entry_115 s1 x1 x2 else if r7 = (19 : Int32) then m_entry_115 s1 x1 x2 else if r7 = (20 : Int32) then m_entry_115 s1 x1 x2 else if r7 < (9 : Int32) then m_entry_143 s1 x1 x2 r7 else if r7 ≤ (12 : Int32) then m_entry_155 s1 x1 x2 else m_entry_143 s1 x1 x2 r7 else some ((-1 : Int32), s1) else m_entry_14 s1
noncomputable def m_entry (σ : SM) (x1 : Int32) (x2 : Int32) : Option (Int32 × SM) := m_entry_0 σ x1 x2
noncomputable def m_bits_30 (σ : SM) (x1 : Int32) : Option (Int64 × SM) :=
  ckIn x1 65540 ((m_u4 σ ((σ.2 21 x1.toNatClampNeg) + (1 : Int32))).bind fun r2 => some (r2.toInt32.toInt64, σ))
noncomputable def m_bits_56 (σ : SM) (x1 : Int32) : Option (Int64 × SM) :=
  ckIn x1 65540 ((m_u4 σ ((σ.2 21 x1.toNatClampNeg) + (1 : Int32))).bind fun r2 => ckIn x1 65540 ((m_u4 σ ((σ.2 21 x1.toNatClampNeg) + (5 : Int32))).bind fun r5 => some ((r2 <<< ((32 : Int32).toInt64 &&& 63)) ||| r5, σ)))
noncomputable def m_bits_0 (σ : SM) (x1 : Int32) : Option (Int64 × SM) :=
  nx (sf σ 0 (0 : Int32)) fun s1 => if 0 ≤ (s1.1 18) then (m_tag s1 x1).bind fun r3 => if r3 = (3 : Int32) then m_bits_30 s1 x1 else if r3 = (4 : Int32) then m_bits_30 s1 x1 else if r3 = (5 : Int32) then m_bits_56 s1 x1 else if r3 = (6 : Int32) then m_bits_56 s1 x1 else some ((0 : Int64), s1) else some ((0 : Int64), s1)
noncomputable def m_bits (σ : SM) (x1 : Int32) : Option (Int64 × SM) := m_bits_0 σ x1
noncomputable def m_character_38 (σ : SM) : Option (Int32 × SM) :=
  some ((-1 : Int32), σ)
noncomputable def m_character_0 (σ : SM) (x1 : Int32) (x2 : Int32) : Option (Int32 × SM) :=
  nx (sf σ 0 (0 : Int32)) fun s1 => if (s1.1 18) < 0 then m_character_38 s1 else (m_tag s1 x1).bind fun r3 => if r3 = (1 : Int32) then if x2 < 0 then m_character_38 s1 else (m_symOf s1 x1).bind fun r7 => (m_length s1 r7).bind fun r9 => if x2 < r9 then (m_symOf s1 x1).bind fun r12 => (m_at s1 r12 x2).bind fun r14 => some (r14, s1) else m_character_38 s1 else m_character_38 s1
noncomputable def m_character (σ : SM) (x1 : Int32) (x2 : Int32) : Option (Int32 × SM) := m_character_0 σ x1 x2
noncomputable def m_member_15 (fu : Nat) (σ : SM) : Option (Int32 × SM) :=
  (m_bad σ).bind fun r1 => some (r1.1, r1.2)
noncomputable def m_member_271 (fu : Nat) (σ : SM) (t0 : Int32) (t1 : Int32) : Option (Int32 × SM) :=
  some (t1 + t0, σ)
noncomputable def m_member_47 (fu : Nat) (σ : SM) (x1 : Int32) (x2 : Int32) (x3 : Int32) (t0 : Int32) (t1 : Int32) : Option (Int32 × SM) :=
  if t1 < t0 then if x3 = (0 : Int32) then if x1 = 0 then ckIn x2 8300 (some (σ.2 27 x2.toNatClampNeg, σ)) else ckIn x2 8300 (some (σ.2 34 x2.toNatClampNeg, σ)) else if x3 = (1 : Int32) then if x1 = 0 then ckIn x2 8300 (some (σ.2 32 x2.toNatClampNeg, σ)) else ckIn x2 8300 (some (σ.2 45 x2.toNatClampNeg, σ)) else if x3 = (2 : Int32) then if x1 = 0 then ckIn x2 8300 (some (σ.2 33 x2.toNatClampNeg, σ)) else ckIn x2 8300 (some (σ.2 46 x2.toNatClampNeg, σ)) else if x3 = (3 : Int32) then if x1 = 0 then ckIn x2 8300 (some (σ.2 31 x2.toNatClampNeg, σ)) else ckIn x2 8300 (some (σ.2 43 x2.toNatClampNeg, σ)) else if x3 = (4 : Int32) then if x1 = 0 then ckIn x2 8300 (some (σ.2 30 x2.toNatClampNeg, σ)) else ckIn x2 8300 (some (σ.2 38 x2.toNatClampNeg, σ)) else if x1 = 0 then some ((0 : Int32), σ) else if x3 = (5 : Int32) then ckIn x2 8300 (some (σ.2 39 x2.toNatClampNeg, σ)) else if x3 = (6 : Int32) then ckIn x2 8300 (some (σ.2 40 x2.toNatClampNeg, σ)) else if x3 = (7 : Int32) then ckIn x2 8300 (some (σ.2 42 x2.toNatClampNeg, σ)) else if x3 = (8 : Int32) then ckIn x2 8300 ((m_places0 fu σ (σ.2 36 x2.toNatClampNeg)).bind fun r29 => ckIn x2 8300 (if ((σ.2 34 x2.toNatClampNeg) &&& (8 : Int32)) = 0 then m_member_271 fu σ (1 : Int32) r29 else m_member_271 fu σ (0 : Int32) r29)) else ckIn x2 8300 (some (σ.2 44 x2.toNatClampNeg, σ)) else some ((-1 : Int32), σ)
noncomputable def m_member_0 (fu : Nat) (σ : SM) (x1 : Int32) (x2 : Int32) (x3 : Int32) : Option (Int32 × SM) :=
  nx (sf σ 0 (0 : Int32)) fun s1 => if x3 < 0 then m_member_15 fu s1 else if x3 ≤ (9 : Int32) then if (s1.1 18) < 0 then some ((-1 : Int32), s1) else if x2 < 0 then some ((-1 : Int32), s1) else if x1 = 0 then m_member_47 fu s1 x1 x2 x3 (s1.1 25) x2 else m_member_47 fu s1 x1 x2 x3 (s1.1 26) x2 else m_member_15 fu s1
noncomputable def m_member (fu : Nat) (σ : SM) (x1 : Int32) (x2 : Int32) (x3 : Int32) : Option (Int32 × SM) := m_member_0 fu σ x1 x2 x3
noncomputable def m_find_124 (fu : Nat) (k49 : SM → Int32 → Int32 → Int32 → Int32 → Option (Int32 × SM)) (σ : SM) (x1 : Int32) (x4 : Int32) (x5 : Int32) (x6 : Int32) : Option (Int32 × SM) :=
  nx (x6 + (1 : Int32)) fun y1 => k49 σ x1 x4 x5 y1
noncomputable def m_find_116 (fu : Nat) (k49 : SM → Int32 → Int32 → Int32 → Int32 → Option (Int32 × SM)) (σ : SM) (x1 : Int32) (x4 : Int32) (x5 : Int32) (x6 : Int32) (t0 : Int32) : Option (Int32 × SM) :=
  if t0 = x5 then some (x6, σ) else m_find_124 fu k49 σ x1 x4 x5 x6
noncomputable def m_find_90 (fu : Nat) (k49 : SM → Int32 → Int32 → Int32 → Int32 → Option (Int32 × SM)) (σ : SM) (x1 : Int32) (x4 : Int32) (x5 : Int32) (x6 : Int32) (t0 : Int32) : Option (Int32 × SM) :=
  if t0 = x4 then if x1 = 0 then ckIn x6 8300 (m_find_116 fu k49 σ x1 x4 x5 x6 (σ.2 29 x6.toNatClampNeg)) else ckIn x6 8300 (m_find_116 fu k49 σ x1 x4 x5 x6 (σ.2 36 x6.toNatClampNeg)) else m_find_124 fu k49 σ x1 x4 x5 x6
noncomputable def m_find_66 (fu : Nat) (k49 : SM → Int32 → Int32 → Int32 → Int32 → Option (Int32 × SM)) (σ : SM) (x1 : Int32) (x4 : Int32) (x5 : Int32) (x6 : Int32) (t0 : Int32) (t1 : Int32) : Option (Int32 × SM) :=
  if t0 ≤ t1 then some ((-1 : Int32), σ) else if x1 = 0 then ckIn x6 8300 (m_find_90 fu k49 σ x1 x4 x5 x6 (σ.2 28 x6.toNatClampNeg)) else ckIn x6 8300 (m_find_90 fu k49 σ x1 x4 x5 x6 (σ.2 35 x6.toNatClampNeg))
noncomputable def m_find_49 (fu : Nat) (k49 : SM → Int32 → Int32 → Int32 → Int32 → Option (Int32 × SM)) (σ : SM) (x1 : Int32) (x4 : Int32) (x5 : Int32) (x6 : Int32) : Option (Int32 × SM) :=
  if x1 = 0 then m_find_66 fu k49 σ x1 x4 x5 x6 (σ.1 25) x6 else m_find_66 fu k49 σ x1 x4 x5 x6 (σ.1 26) x6
noncomputable def m_find_49L (fu : Nat) (n : Nat) : SM → Int32 → Int32 → Int32 → Int32 → Option (Int32 × SM) := lpF (F := SM → Int32 → Int32 → Int32 → Int32 → Option (Int32 × SM)) (fun _ _ _ _ _ => none) (fun k => m_find_49 fu k) n
noncomputable def m_find_0 (fu : Nat) (σ : SM) (x1 : Int32) (x2 : Int32) (x3 : Int32) : Option (Int32 × SM) :=
  nx (sf σ 0 (0 : Int32)) fun s1 => if (s1.1 18) < 0 then some ((-1 : Int32), s1) else (m_tag s1 x2).bind fun r3 => if r3 = (1 : Int32) then (m_tag s1 x3).bind fun r6 => if r6 = (1 : Int32) then (m_symOf s1 x2).bind fun r9 => (m_symOf s1 x3).bind fun r11 => m_find_49L fu fu s1 x1 r9 r11 (0 : Int32) else some ((-1 : Int32), s1) else some ((-1 : Int32), s1)
noncomputable def m_find (fu : Nat) (σ : SM) (x1 : Int32) (x2 : Int32) (x3 : Int32) : Option (Int32 × SM) := m_find_0 fu σ x1 x2 x3
noncomputable def m_row_14 (σ : SM) : Option (Int32 × SM) :=
  (m_bad σ).bind fun r1 => some (r1.1, r1.2)
noncomputable def m_row_0 (σ : SM) (x1 : Int32) (x2 : Int32) (x3 : Int32) : Option (Int32 × SM) :=
  nx (sf σ 0 (0 : Int32)) fun s1 => if x3 < 0 then m_row_14 s1 else if x3 ≤ (3 : Int32) then if (s1.1 18) < 0 then some ((-1 : Int32), s1) else if x1 < 0 then some ((-1 : Int32), s1) else if (s1.1 26) ≤ x1 then some ((-1 : Int32), s1) else ckIn x1 8300 (if (s1.2 37 x1.toNatClampNeg) < 0 then some ((-1 : Int32), s1) else if x2 < 0 then some ((-1 : Int32), s1) else ckIn x1 8300 (if x2 < (s1.2 42 x1.toNatClampNeg) then ckIn x1 8300 ((m_u2 s1 (((s1.2 41 x1.toNatClampNeg) + ((8 : Int32) * x2)) + ((2 : Int32) * x3))).bind fun r13 => some (r13, s1)) else some ((-1 : Int32), s1))) else m_row_14 s1
noncomputable def m_row (σ : SM) (x1 : Int32) (x2 : Int32) (x3 : Int32) : Option (Int32 × SM) := m_row_0 σ x1 x2 x3
noncomputable def m_bootstrap_40 (fu : Nat) (k40 : SM → Int32 → Int32 → Int32 → Int32 → Option (Int32 × SM)) (σ : SM) (x1 : Int32) (x2 : Int32) (x3 : Int32) (x4 : Int32) : Option (Int32 × SM) :=
  if x1 ≤ x4 then if x2 = 0 then (m_u2 σ x3).bind fun r8 => some (r8, σ) else (m_u2 σ (x3 + (2 : Int32))).bind fun r3 => if x2 ≤ r3 then (m_u2 σ ((x3 + (2 : Int32)) + ((2 : Int32) * x2))).bind fun r6 => some (r6, σ) else some ((-1 : Int32), σ) else (m_u2 σ (x3 + (2 : Int32))).bind fun r10 => nx (x3 + ((4 : Int32) + ((2 : Int32) * r10))) fun y12 => nx (x4 + (1 : Int32)) fun y13 => k40 σ x1 x2 y12 y13
noncomputable def m_bootstrap_40L (fu : Nat) (n : Nat) : SM → Int32 → Int32 → Int32 → Int32 → Option (Int32 × SM) := lpF (F := SM → Int32 → Int32 → Int32 → Int32 → Option (Int32 × SM)) (fun _ _ _ _ _ => none) (fun k => m_bootstrap_40 fu k) n
noncomputable def m_bootstrap_0 (fu : Nat) (σ : SM) (x1 : Int32) (x2 : Int32) : Option (Int32 × SM) :=
  nx (sf σ 0 (0 : Int32)) fun s1 => if (s1.1 18) < 0 then some ((-1 : Int32), s1) else if x1 < 0 then some ((-1 : Int32), s1) else if (s1.1 71) ≤ x1 then some ((-1 : Int32), s1) else if 0 ≤ x2 then nx ((s1.1 70) + (2 : Int32)) fun y6 => m_bootstrap_40L fu fu s1 x1 x2 y6 (0 : Int32) else some ((-1 : Int32), s1)
noncomputable def m_bootstrap (fu : Nat) (σ : SM) (x1 : Int32) (x2 : Int32) : Option (Int32 × SM) := m_bootstrap_0 fu σ x1 x2
noncomputable def m_wide_22 (σ : SM) : Option Int32 :=
  some (1 : Int32)
noncomputable def m_wide_0 (σ : SM) (x1 : Int32) (x2 : Int32) : Option Int32 :=
  (m_at σ x1 x2).bind fun r1 => if r1 = (74 : Int32) then m_wide_22 σ else (m_at σ x1 x2).bind fun r4 => if r4 = (68 : Int32) then m_wide_22 σ else some (0 : Int32)
noncomputable def m_wide (σ : SM) (x1 : Int32) (x2 : Int32) : Option Int32 := m_wide_0 σ x1 x2
noncomputable def m_places_145 (fu : Nat) (σ : SM) (t0 : Int32) (t1 : Int32) (t2 : Int32) : Option (Int32 × SM) :=
  some (t2 + (t1 * t0), σ)
noncomputable def m_places_128 (fu : Nat) (σ : SM) (x2 : Int32) (x4 : Int32) (t0 : Int32) (t1 : Int32) : Option (Int32 × SM) :=
  (m_wide σ x2 (x4 + (1 : Int32))).bind fun r1 => if r1 = 0 then m_places_145 fu σ (1 : Int32) t0 t1 else m_places_145 fu σ (2 : Int32) t0 t1
noncomputable def m_places_73 (fu : Nat) (k73 : SM → Int32 → Int32 → Int32 → Option (Int32 × SM)) (σ : SM) (x2 : Int32) (x3 : Int32) (x4 : Int32) : Option (Int32 × SM) :=
  (m_at σ x2 x4).bind fun r1 => if r1 = (41 : Int32) then (m_places0 fu σ x2).bind fun r4 => (m_at σ x2 x3).bind fun r6 => if r6 = (86 : Int32) then if x3 = (x4 + (1 : Int32)) then m_places_145 fu σ (0 : Int32) (1024 : Int32) r4 else m_places_128 fu σ x2 x4 (1024 : Int32) r4 else m_places_128 fu σ x2 x4 (1024 : Int32) r4 else (m_fieldText fu σ x2 x4).bind fun r10 => k73 σ x2 x3 r10
noncomputable def m_places_73L (fu : Nat) (n : Nat) : SM → Int32 → Int32 → Int32 → Option (Int32 × SM) := lpF (F := SM → Int32 → Int32 → Int32 → Option (Int32 × SM)) (fun _ _ _ _ => none) (fun k => m_places_73 fu k) n
noncomputable def m_places_0 (fu : Nat) (σ : SM) (x1 : Int32) : Option (Int32 × SM) :=
  nx (sf σ 0 (0 : Int32)) fun s1 => if (s1.1 18) < 0 then some ((-1 : Int32), s1) else (m_tag s1 x1).bind fun r3 => if r3 = (1 : Int32) then (m_symOf s1 x1).bind fun r6 => (m_isField fu s1 r6).bind fun r8 => if r8 = 0 then (m_isMethod fu s1 r6).bind fun r11 => if r11 = 0 then some ((-1 : Int32), s1) else (m_length s1 r6).bind fun r14 => nx (r14 - (1 : Int32)) fun y16 => m_places_73L fu fu s1 r6 y16 (1 : Int32) else (m_wide s1 r6 (0 : Int32)).bind fun r17 => if r17 = 0 then some ((1 : Int32), s1) else some ((2 : Int32), s1) else some ((-1 : Int32), s1)
noncomputable def m_places (fu : Nat) (σ : SM) (x1 : Int32) : Option (Int32 × SM) := m_places_0 fu σ x1
noncomputable def m_noCode_28 (σ : SM) : Option Int32 :=
  some (1 : Int32)
noncomputable def m_noCode_0 (σ : SM) (x1 : Int32) : Option Int32 :=
  if (σ.1 18) < 0 then m_noCode_28 σ else if x1 < 0 then m_noCode_28 σ else if (σ.1 26) ≤ x1 then m_noCode_28 σ else ckIn x1 8300 (if 0 ≤ (σ.2 37 x1.toNatClampNeg) then some (0 : Int32) else m_noCode_28 σ)
noncomputable def m_noCode (σ : SM) (x1 : Int32) : Option Int32 := m_noCode_0 σ x1
noncomputable def m_b1_0 (σ : SM) (x1 : Int32) : Option Int32 :=
  ckIn ((σ.1 77) + x1) 65600 (some ((σ.2 12 ((σ.1 77) + x1).toNatClampNeg) &&& (255 : Int32)))
noncomputable def m_b1 (σ : SM) (x1 : Int32) : Option Int32 := m_b1_0 σ x1
noncomputable def m_pad_0 (x0 : Int32) : Option Int32 :=
  some ((x0 + (4 : Int32)) &&& (-4 : Int32))
noncomputable def m_pad (x0 : Int32) : Option Int32 := m_pad_0 x0
noncomputable def m_b4_0 (σ : SM) (x1 : Int32) : Option Int32 :=
  (m_u4 σ ((σ.1 77) + x1)).bind fun r1 => some r1.toInt32
noncomputable def m_b4 (σ : SM) (x1 : Int32) : Option Int32 := m_b4_0 σ x1
noncomputable def m_formed_70 (fu : Nat) (σ : SM) : Option Int32 :=
  some (4 : Int32)
noncomputable def m_formed_63 (fu : Nat) (σ : SM) (x3 : Int32) : Option Int32 :=
  if x3 = (169 : Int32) then m_formed_70 fu σ else some (-1 : Int32)
noncomputable def m_formed_51 (fu : Nat) (σ : SM) (x3 : Int32) : Option Int32 :=
  if x3 < (54 : Int32) then m_formed_63 fu σ x3 else if x3 ≤ (58 : Int32) then m_formed_70 fu σ else m_formed_63 fu σ x3
noncomputable def m_formed_304 (fu : Nat) (σ : SM) (x1 : Int32) (x3 : Int32) (x4 : Int64) : Option Int32 :=
  some (((x3.toInt64 + x4) - x1.toInt64).toInt32)
noncomputable def m_formed_256 (fu : Nat) (σ : SM) (k256 : Int32 → Int32 → Int64 → Int32 → Option Int32) (x1 : Int32) (x3 : Int32) (x4 : Int64) (x6 : Int32) : Option Int32 :=
  (m_b4 σ (x3 + (4 : Int32))).bind fun r1 => if r1 ≤ x6 then m_formed_304 fu σ x1 x3 x4 else (m_b4 σ ((x3 + (8 : Int32)) + ((8 : Int32) * x6))).bind fun r4 => (m_b4 σ (x3 + ((8 : Int32) * x6))).bind fun r6 => if r6 < r4 then nx (x6 + (1 : Int32)) fun y9 => k256 x1 x3 x4 y9 else some (-1 : Int32)
noncomputable def m_formed_256L (fu : Nat) (σ : SM) (n : Nat) : Int32 → Int32 → Int64 → Int32 → Option Int32 := lpF (F := Int32 → Int32 → Int64 → Int32 → Option Int32) (fun _ _ _ _ => none) (fun k => m_formed_256 fu σ k) n
noncomputable def m_formed_228 (fu : Nat) (σ : SM) (x1 : Int32) (x2 : Int32) (x3 : Int32) (t0 : Int64) : Option Int32 :=
  if (lg_cmp (x3.toInt64 + t0) ((σ.1 78).toInt64)) ≤ 0 then if x2 = (171 : Int32) then m_formed_256L fu σ fu x1 x3 t0 (1 : Int32) else m_formed_304 fu σ x1 x3 t0 else some (-1 : Int32)
noncomputable def m_formed_174 (fu : Nat) (σ : SM) (x1 : Int32) (x2 : Int32) (x3 : Int32) : Option Int32 :=
  if x2 = (170 : Int32) then (m_b4 σ (x3 + (8 : Int32))).bind fun r4 => (m_b4 σ (x3 + (4 : Int32))).bind fun r6 => m_formed_228 fu σ x1 x2 x3 (((4 : Int64) * ((r4.toInt64 - r6.toInt64) + (1 : Int64))) + (12 : Int64)) else (m_b4 σ (x3 + (4 : Int32))).bind fun r2 => m_formed_228 fu σ x1 x2 x3 (((8 : Int64) * r2.toInt64) + (8 : Int64))
noncomputable def m_formed_111 (fu : Nat) (σ : SM) (k111 : Int32 → Int32 → Int32 → Int32 → Option Int32) (x1 : Int32) (x2 : Int32) (x3 : Int32) (x4 : Int32) : Option Int32 :=
  if x3 ≤ x4 then if x2 = (170 : Int32) then (m_b4 σ (x3 + (4 : Int32))).bind fun r6 => (m_b4 σ (x3 + (8 : Int32))).bind fun r8 => if r6 ≤ r8 then m_formed_174 fu σ x1 x2 x3 else some (-1 : Int32) else (m_b4 σ (x3 + (4 : Int32))).bind fun r3 => if 0 ≤ r3 then m_formed_174 fu σ x1 x2 x3 else some (-1 : Int32) else (m_b1 σ x4).bind fun r11 => if r11 = 0 then nx (x4 + (1 : Int32)) fun y14 => k111 x1 x2 x3 y14 else some (-1 : Int32)
noncomputable def m_formed_111L (fu : Nat) (σ : SM) (n : Nat) : Int32 → Int32 → Int32 → Int32 → Option Int32 := lpF (F := Int32 → Int32 → Int32 → Int32 → Option Int32) (fun _ _ _ _ => none) (fun k => m_formed_111 fu σ k) n
noncomputable def m_formed_96 (fu : Nat) (σ : SM) (x1 : Int32) (x2 : Int32) (x3 : Int32) (t0 : Int32) (t1 : Int32) : Option Int32 :=
  if (t1 + t0) ≤ (σ.1 78) then nx (x1 + (1 : Int32)) fun y2 => m_formed_111L fu σ fu x1 x2 x3 y2 else some (-1 : Int32)
noncomputable def m_formed_0 (fu : Nat) (σ : SM) (x1 : Int32) (x2 : Int32) : Option Int32 :=
  if x2 = (196 : Int32) then if (x1 + (1 : Int32)) < (σ.1 78) then (m_b1 σ (x1 + (1 : Int32))).bind fun r6 => if r6 = (132 : Int32) then some (6 : Int32) else if r6 < (21 : Int32) then m_formed_51 fu σ r6 else if r6 ≤ (25 : Int32) then m_formed_70 fu σ else m_formed_51 fu σ r6 else some (-1 : Int32) else (m_pad x1).bind fun r2 => if x2 = (170 : Int32) then m_formed_96 fu σ x1 x2 r2 (12 : Int32) r2 else m_formed_96 fu σ x1 x2 r2 (8 : Int32) r2
noncomputable def m_formed (fu : Nat) (σ : SM) (x1 : Int32) (x2 : Int32) : Option Int32 := m_formed_0 fu σ x1 x2
noncomputable def m_local_0 (σ : SM) (x1 : Int32) (x2 : Int32) : Option Int32 :=
  if (σ.1 79) < (x1 + x2) then some (0 : Int32) else some (1 : Int32)
noncomputable def m_local (σ : SM) (x1 : Int32) (x2 : Int32) : Option Int32 := m_local_0 σ x1 x2
noncomputable def m_b2_0 (σ : SM) (x1 : Int32) : Option Int32 :=
  (m_u2 σ ((σ.1 77) + x1)).bind fun r1 => some r1
noncomputable def m_b2 (σ : SM) (x1 : Int32) : Option Int32 := m_b2_0 σ x1
noncomputable def m_descOf_0 (σ : SM) (x1 : Int32) : Option Int32 :=
  (m_index σ x1 (3 : Int32)).bind fun r1 => (m_index σ r1 (3 : Int32)).bind fun r3 => (m_symOf σ r3).bind fun r5 => some r5
noncomputable def m_descOf (σ : SM) (x1 : Int32) : Option Int32 := m_descOf_0 σ x1
noncomputable def m_nameOf_0 (σ : SM) (x1 : Int32) : Option Int32 :=
  (m_index σ x1 (3 : Int32)).bind fun r1 => (m_index σ r1 (1 : Int32)).bind fun r3 => (m_symOf σ r3).bind fun r5 => some r5
noncomputable def m_nameOf (σ : SM) (x1 : Int32) : Option Int32 := m_nameOf_0 σ x1
noncomputable def m_operands_52 (fu : Nat) (σ : SM) : Option Int32 :=
  some (1 : Int32)
noncomputable def m_operands_56 (fu : Nat) (σ : SM) : Option Int32 :=
  some (0 : Int32)
noncomputable def m_operands_21 (fu : Nat) (σ : SM) (x1 : Int32) (x2 : Int32) : Option Int32 :=
  if (51 : Int32) ≤ (σ.1 53) then m_operands_56 fu σ else if x2 = (169 : Int32) then (m_b1 σ (x1 + (1 : Int32))).bind fun r3 => (m_local σ r3 (1 : Int32)).bind fun r5 => if r5 = 0 then m_operands_56 fu σ else m_operands_52 fu σ else m_operands_52 fu σ
noncomputable def m_operands_123 (fu : Nat) (σ : SM) (t0 : Int32) (t1 : Int32) : Option Int32 :=
  (m_local σ t1 t0).bind fun r1 => ckN .boolean r1 (some r1)
noncomputable def m_operands_118 (fu : Nat) (σ : SM) (t0 : Int32) : Option Int32 :=
  m_operands_123 fu σ (2 : Int32) t0
noncomputable def m_operands_99 (fu : Nat) (σ : SM) (x1 : Int32) (t0 : Int32) : Option Int32 :=
  (m_b1 σ (x1 + (1 : Int32))).bind fun r1 => if t0 = (1 : Int32) then m_operands_118 fu σ r1 else if t0 = (3 : Int32) then m_operands_118 fu σ r1 else m_operands_123 fu σ (1 : Int32) r1
noncomputable def m_operands_82 (fu : Nat) (σ : SM) (x1 : Int32) (x2 : Int32) : Option Int32 :=
  if x2 < (54 : Int32) then m_operands_99 fu σ x1 (x2 - (21 : Int32)) else m_operands_99 fu σ x1 (x2 - (54 : Int32))
noncomputable def m_operands_192 (fu : Nat) (σ : SM) (t0 : Int32) (t1 : Int32) : Option Int32 :=
  (m_local σ t1 t0).bind fun r1 => ckN .boolean r1 (some r1)
noncomputable def m_operands_187 (fu : Nat) (σ : SM) (t0 : Int32) : Option Int32 :=
  m_operands_192 fu σ (2 : Int32) t0
noncomputable def m_operands_168 (fu : Nat) (σ : SM) (t0 : Int32) : Option Int32 :=
  ckD (4 : Int32) (ckD (4 : Int32) (if (t0 / (4 : Int32)) = (1 : Int32) then m_operands_187 fu σ (t0 - t0 / (4 : Int32) * (4 : Int32)) else ckD (4 : Int32) (if (t0 / (4 : Int32)) = (3 : Int32) then m_operands_187 fu σ (t0 - t0 / (4 : Int32) * (4 : Int32)) else m_operands_192 fu σ (1 : Int32) (t0 - t0 / (4 : Int32) * (4 : Int32)))))
noncomputable def m_operands_151 (fu : Nat) (σ : SM) (x2 : Int32) : Option Int32 :=
  if x2 < (59 : Int32) then m_operands_168 fu σ (x2 - (26 : Int32)) else m_operands_168 fu σ (x2 - (59 : Int32))
noncomputable def m_operands_294 (fu : Nat) (σ : SM) : Option Int32 :=
  some (0 : Int32)
noncomputable def m_operands_284 (fu : Nat) (σ : SM) (t0 : Int32) (t1 : Int32) : Option Int32 :=
  (m_local σ t1 t0).bind fun r1 => if r1 = 0 then m_operands_294 fu σ else some (1 : Int32)
noncomputable def m_operands_279 (fu : Nat) (σ : SM) (t0 : Int32) : Option Int32 :=
  m_operands_284 fu σ (2 : Int32) t0
noncomputable def m_operands_247 (fu : Nat) (σ : SM) (x1 : Int32) (x3 : Int32) : Option Int32 :=
  (m_b2 σ (x1 + (2 : Int32))).bind fun r1 => if x3 = (22 : Int32) then m_operands_279 fu σ r1 else if x3 = (24 : Int32) then m_operands_279 fu σ r1 else if x3 = (55 : Int32) then m_operands_279 fu σ r1 else if x3 = (57 : Int32) then m_operands_279 fu σ r1 else m_operands_284 fu σ (1 : Int32) r1
noncomputable def m_operands_330 (fu : Nat) (σ : SM) : Option Int32 :=
  some (0 : Int32)
noncomputable def m_operands_414 (fu : Nat) (σ : SM) : Option Int32 :=
  some (1 : Int32)
noncomputable def m_operands_418 (fu : Nat) (σ : SM) : Option Int32 :=
  some (0 : Int32)
noncomputable def m_operands_507 (fu : Nat) (σ : SM) : Option Int32 :=
  some (1 : Int32)
noncomputable def m_operands_511 (fu : Nat) (σ : SM) : Option Int32 :=
  some (0 : Int32)
noncomputable def m_operands_478 (fu : Nat) (σ : SM) (x3 : Int32) (x4 : Int32) : Option Int32 :=
  if x4 = (17 : Int32) then if (σ.1 53) < (55 : Int32) then m_operands_511 fu σ else (m_descOf σ x3).bind fun r3 => (m_wide σ r3 (0 : Int32)).bind fun r5 => if r5 = 0 then m_operands_507 fu σ else m_operands_511 fu σ else m_operands_511 fu σ
noncomputable def m_operands_469 (fu : Nat) (σ : SM) (x3 : Int32) (x4 : Int32) : Option Int32 :=
  if (51 : Int32) ≤ (σ.1 53) then m_operands_507 fu σ else m_operands_478 fu σ x3 x4
noncomputable def m_operands_455 (fu : Nat) (σ : SM) (x3 : Int32) (x4 : Int32) : Option Int32 :=
  if x4 = (15 : Int32) then m_operands_469 fu σ x3 x4 else if x4 = (16 : Int32) then m_operands_469 fu σ x3 x4 else m_operands_478 fu σ x3 x4
noncomputable def m_operands_367 (fu : Nat) (σ : SM) (x2 : Int32) (t0 : Int32) : Option Int32 :=
  (m_tag σ t0).bind fun r1 => if x2 = (20 : Int32) then if r1 = (5 : Int32) then m_operands_414 fu σ else if r1 = (6 : Int32) then m_operands_414 fu σ else if r1 = (17 : Int32) then (m_descOf σ t0).bind fun r12 => (m_wide σ r12 (0 : Int32)).bind fun r14 => if r14 = 0 then m_operands_418 fu σ else m_operands_414 fu σ else m_operands_418 fu σ else if r1 = (3 : Int32) then m_operands_507 fu σ else if r1 = (4 : Int32) then m_operands_507 fu σ else if r1 = (8 : Int32) then m_operands_507 fu σ else if r1 = (7 : Int32) then if (49 : Int32) ≤ (σ.1 53) then m_operands_507 fu σ else m_operands_455 fu σ t0 r1 else m_operands_455 fu σ t0 r1
noncomputable def m_operands_686 (fu : Nat) (σ : SM) : Option Int32 :=
  some (1 : Int32)
noncomputable def m_operands_690 (fu : Nat) (σ : SM) : Option Int32 :=
  some (0 : Int32)
noncomputable def m_operands_648 (fu : Nat) (σ : SM) (x1 : Int32) (x2 : Int32) (x3 : Int32) : Option Int32 :=
  if x2 = (185 : Int32) then (m_b1 σ (x1 + (3 : Int32))).bind fun r2 => (m_descOf σ x3).bind fun r4 => (m_places0 fu σ r4).bind fun r6 => if r2 = (r6 + (1 : Int32)) then (m_b1 σ (x1 + (4 : Int32))).bind fun r9 => if r9 = 0 then m_operands_686 fu σ else m_operands_690 fu σ else m_operands_690 fu σ else m_operands_686 fu σ
noncomputable def m_operands_627 (fu : Nat) (σ : SM) (x1 : Int32) (x2 : Int32) (x3 : Int32) : Option Int32 :=
  (m_nameOf σ x3).bind fun r1 => if r1 = (σ.1 9) then if x2 = (183 : Int32) then m_operands_648 fu σ x1 x2 x3 else some (0 : Int32) else m_operands_648 fu σ x1 x2 x3
noncomputable def m_operands_739 (fu : Nat) (σ : SM) : Option Int32 :=
  some (0 : Int32)
noncomputable def m_operands_905 (fu : Nat) (σ : SM) : Option Int32 :=
  some (1 : Int32)
noncomputable def m_operands_909 (fu : Nat) (σ : SM) : Option Int32 :=
  some (0 : Int32)
noncomputable def m_operands_836 (fu : Nat) (σ : SM) (x1 : Int32) (x2 : Int32) (x5 : Int32) : Option Int32 :=
  if x2 = (187 : Int32) then if x5 = 0 then some (1 : Int32) else some (0 : Int32) else if x2 = (189 : Int32) then if (255 : Int32) ≤ x5 then some (0 : Int32) else some (1 : Int32) else if x2 = (197 : Int32) then (m_b1 σ (x1 + (3 : Int32))).bind fun r4 => if r4 < (1 : Int32) then m_operands_909 fu σ else (m_b1 σ (x1 + (3 : Int32))).bind fun r7 => if x5 < r7 then m_operands_909 fu σ else m_operands_905 fu σ else m_operands_905 fu σ
noncomputable def m_operands_806 (fu : Nat) (σ : SM) (k806 : Int32 → Int32 → Int32 → Int32 → Option Int32) (x1 : Int32) (x2 : Int32) (x4 : Int32) (x5 : Int32) : Option Int32 :=
  (m_length σ x4).bind fun r1 => if r1 ≤ x5 then m_operands_836 fu σ x1 x2 x5 else (m_at σ x4 x5).bind fun r4 => if r4 = (91 : Int32) then nx (x5 + (1 : Int32)) fun y7 => k806 x1 x2 x4 y7 else m_operands_836 fu σ x1 x2 x5
noncomputable def m_operands_806L (fu : Nat) (σ : SM) (n : Nat) : Int32 → Int32 → Int32 → Int32 → Option Int32 := lpF (F := Int32 → Int32 → Int32 → Int32 → Option Int32) (fun _ _ _ _ => none) (fun k => m_operands_806 fu σ k) n
noncomputable def m_operands_776 (fu : Nat) (σ : SM) (x1 : Int32) (x2 : Int32) : Option Int32 :=
  (m_b2 σ (x1 + (1 : Int32))).bind fun r1 => (m_tag σ r1).bind fun r3 => if r3 = (7 : Int32) then (m_className σ r1).bind fun r6 => m_operands_806L fu σ fu x1 x2 r6 (0 : Int32) else some (0 : Int32)
noncomputable def m_operands_692 (fu : Nat) (σ : SM) (x1 : Int32) (x2 : Int32) : Option Int32 :=
  if x2 = (186 : Int32) then (m_b2 σ (x1 + (1 : Int32))).bind fun r7 => (m_tag σ r7).bind fun r9 => if r9 = (18 : Int32) then (m_b1 σ (x1 + (3 : Int32))).bind fun r12 => if r12 = 0 then (m_b1 σ (x1 + (4 : Int32))).bind fun r15 => if r15 = 0 then some (1 : Int32) else m_operands_739 fu σ else m_operands_739 fu σ else m_operands_739 fu σ else if x2 = (187 : Int32) then m_operands_776 fu σ x1 x2 else if x2 = (189 : Int32) then m_operands_776 fu σ x1 x2 else if x2 = (192 : Int32) then m_operands_776 fu σ x1 x2 else if x2 = (193 : Int32) then m_operands_776 fu σ x1 x2 else if x2 = (197 : Int32) then m_operands_776 fu σ x1 x2 else some (1 : Int32)
noncomputable def m_operands_549 (fu : Nat) (σ : SM) (x1 : Int32) (x2 : Int32) : Option Int32 :=
  if x2 < (182 : Int32) then m_operands_692 fu σ x1 x2 else if (185 : Int32) < x2 then m_operands_692 fu σ x1 x2 else (m_b2 σ (x1 + (1 : Int32))).bind fun r3 => (m_tag σ r3).bind fun r5 => if x2 = (185 : Int32) then if r5 = (11 : Int32) then m_operands_627 fu σ x1 x2 r3 else some (0 : Int32) else if r5 = (10 : Int32) then m_operands_627 fu σ x1 x2 r3 else if x2 = (182 : Int32) then some (0 : Int32) else if r5 = (11 : Int32) then if (52 : Int32) ≤ (σ.1 53) then m_operands_627 fu σ x1 x2 r3 else some (0 : Int32) else some (0 : Int32)
noncomputable def m_operands_513 (fu : Nat) (σ : SM) (x1 : Int32) (x2 : Int32) : Option Int32 :=
  if x2 < (178 : Int32) then m_operands_549 fu σ x1 x2 else if (181 : Int32) < x2 then m_operands_549 fu σ x1 x2 else (m_b2 σ (x1 + (1 : Int32))).bind fun r3 => (m_tag σ r3).bind fun r5 => if r5 = (9 : Int32) then some (1 : Int32) else some (0 : Int32)
noncomputable def m_operands_196 (fu : Nat) (σ : SM) (x1 : Int32) (x2 : Int32) : Option Int32 :=
  if x2 = (132 : Int32) then (m_b1 σ (x1 + (1 : Int32))).bind fun r21 => (m_local σ r21 (1 : Int32)).bind fun r23 => ckN .boolean r23 (some r23) else if x2 = (196 : Int32) then (m_b1 σ (x1 + (1 : Int32))).bind fun r17 => if r17 = (169 : Int32) then if (51 : Int32) ≤ (σ.1 53) then m_operands_294 fu σ else m_operands_247 fu σ x1 r17 else m_operands_247 fu σ x1 r17 else if x2 = (188 : Int32) then (m_b1 σ (x1 + (1 : Int32))).bind fun r11 => if r11 < (4 : Int32) then m_operands_330 fu σ else (m_b1 σ (x1 + (1 : Int32))).bind fun r14 => if (11 : Int32) < r14 then m_operands_330 fu σ else some (1 : Int32) else if x2 < (18 : Int32) then m_operands_513 fu σ x1 x2 else if (20 : Int32) < x2 then m_operands_513 fu σ x1 x2 else if x2 = (18 : Int32) then (m_b1 σ (x1 + (1 : Int32))).bind fun r9 => m_operands_367 fu σ x2 r9 else (m_b2 σ (x1 + (1 : Int32))).bind fun r7 => m_operands_367 fu σ x2 r7
noncomputable def m_operands_139 (fu : Nat) (σ : SM) (x1 : Int32) (x2 : Int32) : Option Int32 :=
  if x2 < (59 : Int32) then m_operands_196 fu σ x1 x2 else if (78 : Int32) < x2 then m_operands_196 fu σ x1 x2 else m_operands_151 fu σ x2
noncomputable def m_operands_127 (fu : Nat) (σ : SM) (x1 : Int32) (x2 : Int32) : Option Int32 :=
  if x2 < (26 : Int32) then m_operands_139 fu σ x1 x2 else if x2 ≤ (45 : Int32) then m_operands_151 fu σ x2 else m_operands_139 fu σ x1 x2
noncomputable def m_operands_70 (fu : Nat) (σ : SM) (x1 : Int32) (x2 : Int32) : Option Int32 :=
  if x2 < (54 : Int32) then m_operands_127 fu σ x1 x2 else if (58 : Int32) < x2 then m_operands_127 fu σ x1 x2 else m_operands_82 fu σ x1 x2
noncomputable def m_operands_0 (fu : Nat) (σ : SM) (x1 : Int32) (x2 : Int32) : Option Int32 :=
  if x2 = (168 : Int32) then m_operands_21 fu σ x1 x2 else if x2 = (169 : Int32) then m_operands_21 fu σ x1 x2 else if x2 = (201 : Int32) then m_operands_21 fu σ x1 x2 else if x2 < (21 : Int32) then m_operands_70 fu σ x1 x2 else if x2 ≤ (25 : Int32) then m_operands_82 fu σ x1 x2 else m_operands_70 fu σ x1 x2
noncomputable def m_operands (fu : Nat) (σ : SM) (x1 : Int32) (x2 : Int32) : Option Int32 := m_operands_0 fu σ x1 x2
noncomputable def m_s2_0 (σ : SM) (x1 : Int32) : Option Int32 :=
  (m_b2 σ x1).bind fun r1 => some r1.toInt16.toInt32
noncomputable def m_s2 (σ : SM) (x1 : Int32) : Option Int32 := m_s2_0 σ x1
noncomputable def m_starts_30 (σ : SM) : Option Int32 :=
  some (0 : Int32)
noncomputable def m_starts_0 (σ : SM) (x1 : Int64) : Option Int32 :=
  if (lg_cmp x1 (0 : Int64)) < 0 then m_starts_30 σ else if 0 ≤ (lg_cmp x1 ((σ.1 78).toInt64)) then m_starts_30 σ else ckIn x1.toInt32 65540 (if (σ.2 81 x1.toInt32.toNatClampNeg) < 0 then m_starts_30 σ else some (1 : Int32))
noncomputable def m_starts (σ : SM) (x1 : Int64) : Option Int32 := m_starts_0 σ x1
noncomputable def m_ways_45 (σ : SM) (t0 : Int32) (t1 : Int32) : Option Int32 :=
  some (t1 + t0)
noncomputable def m_ways_0 (σ : SM) (x1 : Int32) : Option Int32 :=
  (m_pad x1).bind fun r1 => (m_b1 σ x1).bind fun r3 => if r3 = (170 : Int32) then (m_b4 σ (r1 + (8 : Int32))).bind fun r8 => (m_b4 σ (r1 + (4 : Int32))).bind fun r10 => m_ways_45 σ ((r8 - r10) + (1 : Int32)) (1 : Int32) else (m_b4 σ (r1 + (4 : Int32))).bind fun r6 => m_ways_45 σ r6 (1 : Int32)
noncomputable def m_ways (σ : SM) (x1 : Int32) : Option Int32 := m_ways_0 σ x1
noncomputable def m_wayAt_0 (σ : SM) (x1 : Int32) (x2 : Int32) : Option Int32 :=
  (m_pad x1).bind fun r1 => if x2 = 0 then some r1 else (m_b1 σ x1).bind fun r4 => if r4 = (170 : Int32) then some ((r1 + (8 : Int32)) + ((4 : Int32) * x2)) else some ((r1 + (4 : Int32)) + ((8 : Int32) * x2))
noncomputable def m_wayAt (σ : SM) (x1 : Int32) (x2 : Int32) : Option Int32 := m_wayAt_0 σ x1 x2
noncomputable def m_aims_34 (fu : Nat) (σ : SM) (x1 : Int32) : Option Int32 :=
  (m_s2 σ (x1 + (1 : Int32))).bind fun r1 => (m_starts σ ((x1 + r1).toInt64)).bind fun r3 => ckN .boolean r3 (some r3)
noncomputable def m_aims_63 (fu : Nat) (σ : SM) (x1 : Int32) : Option Int32 :=
  (m_b4 σ (x1 + (1 : Int32))).bind fun r1 => (m_starts σ (x1.toInt64 + r1.toInt64)).bind fun r3 => ckN .boolean r3 (some r3)
noncomputable def m_aims_95 (fu : Nat) (σ : SM) (k95 : Int32 → Int32 → Option Int32) (x1 : Int32) (x3 : Int32) : Option Int32 :=
  (m_ways σ x1).bind fun r1 => if r1 ≤ x3 then some (1 : Int32) else (m_wayAt σ x1 x3).bind fun r4 => (m_b4 σ r4).bind fun r6 => (m_starts σ (x1.toInt64 + r6.toInt64)).bind fun r8 => if r8 = 0 then some (0 : Int32) else nx (x3 + (1 : Int32)) fun y11 => k95 x1 y11
noncomputable def m_aims_95L (fu : Nat) (σ : SM) (n : Nat) : Int32 → Int32 → Option Int32 := lpF (F := Int32 → Int32 → Option Int32) (fun _ _ => none) (fun k => m_aims_95 fu σ k) n
noncomputable def m_aims_93 (fu : Nat) (σ : SM) (x1 : Int32) : Option Int32 :=
  m_aims_95L fu σ fu x1 (0 : Int32)
noncomputable def m_aims_20 (fu : Nat) (σ : SM) (x1 : Int32) (x2 : Int32) : Option Int32 :=
  if x2 = (198 : Int32) then m_aims_34 fu σ x1 else if x2 = (199 : Int32) then m_aims_34 fu σ x1 else if x2 = (200 : Int32) then m_aims_63 fu σ x1 else if x2 = (201 : Int32) then m_aims_63 fu σ x1 else if x2 = (170 : Int32) then m_aims_93 fu σ x1 else if x2 = (171 : Int32) then m_aims_93 fu σ x1 else some (1 : Int32)
noncomputable def m_aims_0 (fu : Nat) (σ : SM) (x1 : Int32) : Option Int32 :=
  (m_b1 σ x1).bind fun r1 => if r1 < (153 : Int32) then m_aims_20 fu σ x1 r1 else if r1 ≤ (168 : Int32) then m_aims_34 fu σ x1 else m_aims_20 fu σ x1 r1
noncomputable def m_aims (fu : Nat) (σ : SM) (x1 : Int32) : Option Int32 := m_aims_0 fu σ x1
noncomputable def m_cuts_230 (fu : Nat) (k91 : SM → Int32 → Option (Int32 × SM)) (σ : SM) (x2 : Int32) : Option (Int32 × SM) :=
  k91 σ x2
noncomputable def m_cuts_190 (fu : Nat) (k91 : SM → Int32 → Option (Int32 × SM)) (σ : SM) (x2 : Int32) : Option (Int32 × SM) :=
  nx (sf σ 76 x2) fun s1 => m_cuts_230 fu k91 s1 x2
noncomputable def m_cuts_163 (fu : Nat) (k91 : SM → Int32 → Option (Int32 × SM)) (σ : SM) (x2 : Int32) (x3 : Int32) (t0 : Int32) : Option (Int32 × SM) :=
  if t0 < 0 then m_cuts_190 fu k91 σ x2 else if (σ.1 78) < (x2 + t0) then m_cuts_190 fu k91 σ x2 else (m_operands fu σ x2 x3).bind fun r3 => if r3 = 0 then m_cuts_190 fu k91 σ x2 else ckIn x2 65540 (nx (sa σ 81 x2.toNatClampNeg (σ.1 75)) fun s7 => nx (sf s7 75 ((s7.1 75) + (1 : Int32))) fun s8 => ckIn (s7.1 75) 65540 (nx (sa s8 80 (s7.1 75).toNatClampNeg x2) fun s10 => nx (x2 + t0) fun y11 => m_cuts_230 fu k91 s10 y11))
noncomputable def m_cuts_144 (fu : Nat) (k91 : SM → Int32 → Option (Int32 × SM)) (σ : SM) (x2 : Int32) (x3 : Int32) : Option (Int32 × SM) :=
  (m_formed fu σ x2 x3).bind fun r1 => m_cuts_163 fu k91 σ x2 x3 r1
noncomputable def m_cuts_273 (fu : Nat) (k235 : SM → Int32 → Option (Int32 × SM)) (σ : SM) (x3 : Int32) : Option (Int32 × SM) :=
  nx (x3 + (1 : Int32)) fun y1 => k235 σ y1
noncomputable def m_cuts_279 (fu : Nat) (σ : SM) : Option (Int32 × SM) :=
  if 0 ≤ (σ.1 76) then some ((0 : Int32), σ) else some ((1 : Int32), σ)
noncomputable def m_cuts_235 (fu : Nat) (k235 : SM → Int32 → Option (Int32 × SM)) (σ : SM) (x3 : Int32) : Option (Int32 × SM) :=
  if (σ.1 75) ≤ x3 then m_cuts_279 fu σ else if 0 ≤ (σ.1 76) then m_cuts_279 fu σ else ckIn x3 65540 ((m_aims fu σ (σ.2 80 x3.toNatClampNeg)).bind fun r4 => if r4 = 0 then ckIn x3 65540 (nx (sf σ 76 (σ.2 80 x3.toNatClampNeg)) fun s8 => m_cuts_273 fu k235 s8 x3) else m_cuts_273 fu k235 σ x3)
noncomputable def m_cuts_235L (fu : Nat) (n : Nat) : SM → Int32 → Option (Int32 × SM) := lpF (F := SM → Int32 → Option (Int32 × SM)) (fun _ _ => none) (fun k => m_cuts_235 fu k) n
noncomputable def m_cuts_233 (fu : Nat) (σ : SM) : Option (Int32 × SM) :=
  m_cuts_235L fu fu σ (0 : Int32)
noncomputable def m_cuts_91 (fu : Nat) (k91 : SM → Int32 → Option (Int32 × SM)) (σ : SM) (x2 : Int32) : Option (Int32 × SM) :=
  if (σ.1 78) ≤ x2 then m_cuts_233 fu σ else if 0 ≤ (σ.1 76) then m_cuts_233 fu σ else (m_b1 σ x2).bind fun r3 => if r3 ≤ (201 : Int32) then if r3 = (170 : Int32) then m_cuts_144 fu k91 σ x2 r3 else if r3 = (171 : Int32) then m_cuts_144 fu k91 σ x2 r3 else if r3 = (196 : Int32) then m_cuts_144 fu k91 σ x2 r3 else ckJ 14 (ckIn r3 (lx 14) (m_cuts_163 fu k91 σ x2 r3 ((cx 14 r3.toNatClampNeg) - (48 : Int32)))) else m_cuts_163 fu k91 σ x2 r3 (-1 : Int32)
noncomputable def m_cuts_91L (fu : Nat) (n : Nat) : SM → Int32 → Option (Int32 × SM) := lpF (F := SM → Int32 → Option (Int32 × SM)) (fun _ _ => none) (fun k => m_cuts_91 fu k) n
noncomputable def m_cuts_68 (fu : Nat) (k68 : SM → Int32 → Option (Int32 × SM)) (σ : SM) (x2 : Int32) : Option (Int32 × SM) :=
  if (σ.1 78) ≤ x2 then m_cuts_91L fu fu σ (0 : Int32) else ckIn x2 65540 (nx (sa σ 81 x2.toNatClampNeg (-1 : Int32)) fun s3 => nx (x2 + (1 : Int32)) fun y4 => k68 s3 y4)
noncomputable def m_cuts_68L (fu : Nat) (n : Nat) : SM → Int32 → Option (Int32 × SM) := lpF (F := SM → Int32 → Option (Int32 × SM)) (fun _ _ => none) (fun k => m_cuts_68 fu k) n
noncomputable def m_cuts_0 (fu : Nat) (σ : SM) (x1 : Int32) : Option (Int32 × SM) :=
  if (σ.1 74) = x1 then if 0 ≤ (σ.1 76) then some ((0 : Int32), σ) else some ((1 : Int32), σ) else nx (sf σ 74 x1) fun s2 => ckIn x1 8300 (nx (sf s2 77 (s2.2 37 x1.toNatClampNeg)) fun s4 => ckIn x1 8300 (nx (sf s4 78 (s4.2 38 x1.toNatClampNeg)) fun s6 => ckIn x1 8300 (nx (sf s6 79 (s6.2 40 x1.toNatClampNeg)) fun s8 => nx (sf s8 75 (0 : Int32)) fun s9 => nx (sf s9 76 (-1 : Int32)) fun s10 => m_cuts_68L fu fu s10 (0 : Int32))))
noncomputable def m_cuts (fu : Nat) (σ : SM) (x1 : Int32) : Option (Int32 × SM) := m_cuts_0 fu σ x1
noncomputable def m_cut_0 (fu : Nat) (σ : SM) (x1 : Int32) : Option (Int32 × SM) :=
  nx (sf σ 0 (0 : Int32)) fun s1 => (m_noCode s1 x1).bind fun r2 => if r2 = 0 then (m_cuts fu s1 x1).bind fun r5 => if r5.1 = 0 then some ((-2 : Int32) - (r5.2.1 76), r5.2) else some (r5.2.1 75, r5.2) else some ((-1 : Int32), s1)
noncomputable def m_cut (fu : Nat) (σ : SM) (x1 : Int32) : Option (Int32 × SM) := m_cut_0 fu σ x1
noncomputable def m_plain_68 (σ : SM) (x2 : Int32) : Option Int32 :=
  if x2 = (200 : Int32) then some (167 : Int32) else if x2 = (201 : Int32) then some (168 : Int32) else some x2
noncomputable def m_plain_46 (σ : SM) (x2 : Int32) : Option Int32 :=
  if x2 < (59 : Int32) then m_plain_68 σ x2 else if (78 : Int32) < x2 then m_plain_68 σ x2 else ckD (4 : Int32) (some ((54 : Int32) + ((x2 - (59 : Int32)) / (4 : Int32))))
noncomputable def m_plain_0 (σ : SM) (x1 : Int32) (x2 : Int32) : Option Int32 :=
  if x2 = (196 : Int32) then (m_b1 σ (x1 + (1 : Int32))).bind fun r6 => some r6 else if x2 = (19 : Int32) then some (18 : Int32) else if x2 < (26 : Int32) then m_plain_46 σ x2 else if (45 : Int32) < x2 then m_plain_46 σ x2 else ckD (4 : Int32) (some ((21 : Int32) + ((x2 - (26 : Int32)) / (4 : Int32))))
noncomputable def m_plain (σ : SM) (x1 : Int32) (x2 : Int32) : Option Int32 := m_plain_0 σ x1 x2
noncomputable def m_first_133 (σ : SM) (x1 : Int32) : Option Int32 :=
  (m_b1 σ (x1 + (1 : Int32))).bind fun r1 => some r1
noncomputable def m_first_169 (σ : SM) (x1 : Int32) : Option Int32 :=
  (m_s2 σ (x1 + (1 : Int32))).bind fun r1 => ckIn (x1 + r1) 65540 (some (σ.2 81 (x1 + r1).toNatClampNeg))
noncomputable def m_first_198 (σ : SM) (x1 : Int32) : Option Int32 :=
  (m_b4 σ (x1 + (1 : Int32))).bind fun r1 => ckIn (x1 + r1) 65540 (some (σ.2 81 (x1 + r1).toNatClampNeg))
noncomputable def m_first_227 (σ : SM) (x1 : Int32) : Option Int32 :=
  (m_pad x1).bind fun r1 => (m_b4 σ (r1 + (4 : Int32))).bind fun r3 => some r3
noncomputable def m_first_292 (σ : SM) (x1 : Int32) : Option Int32 :=
  (m_b2 σ (x1 + (1 : Int32))).bind fun r1 => some r1
noncomputable def m_first_264 (σ : SM) (x1 : Int32) (x2 : Int32) : Option Int32 :=
  if x2 = (189 : Int32) then m_first_292 σ x1 else if x2 = (192 : Int32) then m_first_292 σ x1 else if x2 = (193 : Int32) then m_first_292 σ x1 else if x2 = (197 : Int32) then m_first_292 σ x1 else some (0 : Int32)
noncomputable def m_first_155 (σ : SM) (x1 : Int32) (x2 : Int32) : Option Int32 :=
  if x2 = (198 : Int32) then m_first_169 σ x1 else if x2 = (199 : Int32) then m_first_169 σ x1 else if x2 = (200 : Int32) then m_first_198 σ x1 else if x2 = (201 : Int32) then m_first_198 σ x1 else if x2 = (170 : Int32) then m_first_227 σ x1 else if x2 = (171 : Int32) then m_first_227 σ x1 else if x2 = (19 : Int32) then m_first_292 σ x1 else if x2 = (20 : Int32) then m_first_292 σ x1 else if x2 < (178 : Int32) then m_first_264 σ x1 x2 else if x2 ≤ (187 : Int32) then m_first_292 σ x1 else m_first_264 σ x1 x2
noncomputable def m_first_112 (σ : SM) (x1 : Int32) (x2 : Int32) : Option Int32 :=
  if x2 = (132 : Int32) then m_first_133 σ x1 else if x2 = (169 : Int32) then m_first_133 σ x1 else if x2 = (188 : Int32) then m_first_133 σ x1 else if x2 < (153 : Int32) then m_first_155 σ x1 x2 else if x2 ≤ (168 : Int32) then m_first_169 σ x1 else m_first_155 σ x1 x2
noncomputable def m_first_100 (σ : SM) (x1 : Int32) (x2 : Int32) : Option Int32 :=
  if x2 < (54 : Int32) then m_first_112 σ x1 x2 else if x2 ≤ (58 : Int32) then m_first_133 σ x1 else m_first_112 σ x1 x2
noncomputable def m_first_53 (σ : SM) (x1 : Int32) (x2 : Int32) : Option Int32 :=
  if x2 = (16 : Int32) then (m_b1 σ (x1 + (1 : Int32))).bind fun r8 => some r8.toInt8.toInt32 else if x2 = (17 : Int32) then (m_s2 σ (x1 + (1 : Int32))).bind fun r6 => some r6 else if x2 = (18 : Int32) then m_first_133 σ x1 else if x2 < (21 : Int32) then m_first_100 σ x1 x2 else if x2 ≤ (25 : Int32) then m_first_133 σ x1 else m_first_100 σ x1 x2
noncomputable def m_first_34 (σ : SM) (x1 : Int32) (x2 : Int32) : Option Int32 :=
  if x2 < (59 : Int32) then m_first_53 σ x1 x2 else if (78 : Int32) < x2 then m_first_53 σ x1 x2 else ckD (4 : Int32) (some ((x2 - (59 : Int32)) - (x2 - (59 : Int32)) / (4 : Int32) * (4 : Int32)))
noncomputable def m_first_0 (σ : SM) (x1 : Int32) (x2 : Int32) : Option Int32 :=
  if x2 = (196 : Int32) then (m_b2 σ (x1 + (2 : Int32))).bind fun r5 => some r5 else if x2 < (26 : Int32) then m_first_34 σ x1 x2 else if (45 : Int32) < x2 then m_first_34 σ x1 x2 else ckD (4 : Int32) (some ((x2 - (26 : Int32)) - (x2 - (26 : Int32)) / (4 : Int32) * (4 : Int32)))
noncomputable def m_first (σ : SM) (x1 : Int32) (x2 : Int32) : Option Int32 := m_first_0 σ x1 x2
noncomputable def m_second_0 (σ : SM) (x1 : Int32) (x2 : Int32) : Option Int32 :=
  if x2 = (196 : Int32) then (m_b1 σ (x1 + (1 : Int32))).bind fun r13 => if r13 = (132 : Int32) then (m_s2 σ (x1 + (4 : Int32))).bind fun r16 => some r16 else some (0 : Int32) else if x2 = (132 : Int32) then (m_b1 σ (x1 + (2 : Int32))).bind fun r11 => some r11.toInt8.toInt32 else if x2 = (170 : Int32) then (m_pad x1).bind fun r7 => (m_b4 σ (r7 + (8 : Int32))).bind fun r9 => some r9 else if x2 = (197 : Int32) then (m_b1 σ (x1 + (3 : Int32))).bind fun r5 => some r5 else some (0 : Int32)
noncomputable def m_second (σ : SM) (x1 : Int32) (x2 : Int32) : Option Int32 := m_second_0 σ x1 x2
noncomputable def m_instruction_14 (fu : Nat) (σ : SM) : Option (Int32 × SM) :=
  (m_bad σ).bind fun r1 => some (r1.1, r1.2)
noncomputable def m_instruction_107 (fu : Nat) (σ : SM) (x4 : Int32) : Option (Int32 × SM) :=
  (m_ways σ x4).bind fun r1 => some (r1, σ)
noncomputable def m_instruction_0 (fu : Nat) (σ : SM) (x1 : Int32) (x2 : Int32) (x3 : Int32) : Option (Int32 × SM) :=
  nx (sf σ 0 (0 : Int32)) fun s1 => if x3 < 0 then m_instruction_14 fu s1 else if x3 ≤ (4 : Int32) then (m_noCode s1 x1).bind fun r4 => if r4 = 0 then (m_cuts fu s1 x1).bind fun r7 => if r7.1 = 0 then some ((-1 : Int32), r7.2) else if x2 < 0 then some ((-1 : Int32), r7.2) else if x2 < (r7.2.1 75) then ckIn x2 65540 (nx (r7.2.2 80 x2.toNatClampNeg) fun y13 => (m_b1 r7.2 y13).bind fun r14 => if x3 = 0 then (m_plain r7.2 y13 r14).bind fun r26 => some (r26, r7.2) else if x3 = (1 : Int32) then some (y13, r7.2) else if x3 = (4 : Int32) then if r14 = (170 : Int32) then m_instruction_107 fu r7.2 y13 else if r14 = (171 : Int32) then m_instruction_107 fu r7.2 y13 else some ((0 : Int32), r7.2) else if x3 = (2 : Int32) then (m_first r7.2 y13 r14).bind fun r22 => some (r22, r7.2) else (m_second r7.2 y13 r14).bind fun r20 => some (r20, r7.2)) else some ((-1 : Int32), r7.2) else some ((-1 : Int32), s1) else m_instruction_14 fu s1
noncomputable def m_instruction (fu : Nat) (σ : SM) (x1 : Int32) (x2 : Int32) (x3 : Int32) : Option (Int32 × SM) := m_instruction_0 fu σ x1 x2 x3
noncomputable def m_jump_67 (fu : Nat) (σ : SM) (x3 : Int32) (x4 : Int32) (x5 : Int32) (x6 : Int32) : Option (Int32 × SM) :=
  if x3 < 0 then some ((-1 : Int32), σ) else (m_ways σ x5).bind fun r2 => if x3 < r2 then if x4 = 0 then (m_wayAt σ x5 x3).bind fun r16 => (m_b4 σ r16).bind fun r18 => ckIn (x5 + r18) 65540 (some (σ.2 81 (x5 + r18).toNatClampNeg, σ)) else if x3 = 0 then some ((0 : Int32), σ) else if x6 = (170 : Int32) then (m_pad x5).bind fun r12 => (m_b4 σ (r12 + (4 : Int32))).bind fun r14 => some ((r14 + x3) - (1 : Int32), σ) else (m_pad x5).bind fun r8 => (m_b4 σ (r8 + ((8 : Int32) * x3))).bind fun r10 => some (r10, σ) else some ((-1 : Int32), σ)
noncomputable def m_jump_0 (fu : Nat) (σ : SM) (x1 : Int32) (x2 : Int32) (x3 : Int32) (x4 : Int32) : Option (Int32 × SM) :=
  nx (sf σ 0 (0 : Int32)) fun s1 => (m_noCode s1 x1).bind fun r2 => if r2 = 0 then (m_cuts fu s1 x1).bind fun r5 => if r5.1 = 0 then some ((-1 : Int32), r5.2) else if x2 < 0 then some ((-1 : Int32), r5.2) else if x2 < (r5.2.1 75) then ckIn x2 65540 (nx (r5.2.2 80 x2.toNatClampNeg) fun y11 => (m_b1 r5.2 y11).bind fun r12 => if r12 = (170 : Int32) then m_jump_67 fu r5.2 x3 x4 y11 r12 else if r12 = (171 : Int32) then m_jump_67 fu r5.2 x3 x4 y11 r12 else some ((-1 : Int32), r5.2)) else some ((-1 : Int32), r5.2) else some ((-1 : Int32), s1)
noncomputable def m_jump (fu : Nat) (σ : SM) (x1 : Int32) (x2 : Int32) (x3 : Int32) (x4 : Int32) : Option (Int32 × SM) := m_jump_0 fu σ x1 x2 x3 x4
end
