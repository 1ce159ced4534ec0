section
set_option maxRecDepth 100000
noncomputable def x_J3_newBytesLength_0 (σ : GS) (x0 : Int32) : Option Int32 :=
  if 0 ≤ x0 then if x0 < (1073741823 : Int32) then some (x0 <<< ((1 : Int32) &&& 31)) else (none : Option Int32) else (none : Option Int32)
noncomputable def x_J3_newBytesLength (σ : GS) (x0 : Int32) : Option Int32 := x_J3_newBytesLength_0 σ x0
noncomputable def x_J3_newBytesFor_0 (σ : GS) (x0 : Int32) : Option (Option Nat × GS) :=
  (x_J3_newBytesLength σ x0).bind fun r1 => ckL r1 (ckC σ r1.toNatClampNeg (nx (gx σ) fun a5 => nx (gnew σ 101 r1.toNatClampNeg r1.toNatClampNeg) fun s6 => some (some a5, s6)))
noncomputable def x_J3_newBytesFor (σ : GS) (x0 : Int32) : Option (Option Nat × GS) := x_J3_newBytesFor_0 σ x0
noncomputable def x_J0_init_0 (σ : GS) (x0 : Nat) (x1 : Int32) : Option GS :=
  if (1 : Int32) = 0 then (x_J3_newBytesFor σ x1).bind fun r2 => ckT r2.2 5 x0 (nx (gpr r2.2 x0 0 r2.1) fun s5 => nx (gpi s5 x0 1 (1 : Int32)) fun s6 => some s6) else ckL x1 (ckC σ x1.toNatClampNeg (nx (gx σ) fun a9 => nx (gnew σ 101 x1.toNatClampNeg x1.toNatClampNeg) fun s10 => ckT s10 5 x0 (nx (gpr s10 x0 0 (some a9)) fun s13 => nx (gpi s13 x0 1 (0 : Int32)) fun s14 => some s14)))
noncomputable def x_J0_init (σ : GS) (x0 : Nat) (x1 : Int32) : Option GS := x_J0_init_0 σ x0 x1
noncomputable def x_J1_init_0 (σ : GS) (x0 : Nat) : Option GS :=
  (x_J0_init σ x0 (16 : Int32)).bind fun r1 => some r1
noncomputable def x_J1_init (σ : GS) (x0 : Nat) : Option GS := x_J1_init_0 σ x0
noncomputable def x_init_0 (σ : GS) (x0 : Nat) : Option GS :=
  ckL (65540 : Int32) (ckC σ (65540 : Int32).toNatClampNeg (nx (gx σ) fun a3 => nx (gnew σ 101 (65540 : Int32).toNatClampNeg (65540 : Int32).toNatClampNeg) fun s4 => ckT s4 1 x0 (nx (gpr s4 x0 0 (some a3)) fun s7 => ckL (0 : Int32) (ckC s7 (0 : Int32).toNatClampNeg (nx (gx s7) fun a10 => nx (gnew s7 101 (0 : Int32).toNatClampNeg (0 : Int32).toNatClampNeg) fun s11 => ckT s11 1 x0 (nx (gpr s11 x0 2 (some a10)) fun s14 => nx (gpi s14 x0 4 (-1 : Int32)) fun s15 => ckC s15 4 (nx (gx s15) fun a17 => nx (gnew s15 5 0 4) fun s18 => (x_J1_init s18 a17).bind fun r20 => ckT r20 1 x0 (nx (gpr r20 x0 11 (some a17)) fun s23 => some s23))))))))
noncomputable def x_init (σ : GS) (x0 : Nat) : Option GS := x_init_0 σ x0
noncomputable def x_X3_init_0 (σ : GS) (x0 : Nat) : Option GS :=
  ckL (0 : Int32) (ckC σ (0 : Int32).toNatClampNeg (nx (gx σ) fun a3 => nx (gnew σ 100 (0 : Int32).toNatClampNeg (0 : Int32).toNatClampNeg) fun s4 => ckT s4 2 x0 (nx (gpr s4 x0 5 (some a3)) fun s7 => ckL (0 : Int32) (ckC s7 (0 : Int32).toNatClampNeg (nx (gx s7) fun a10 => nx (gnew s7 106 (0 : Int32).toNatClampNeg (0 : Int32).toNatClampNeg) fun s11 => ckT s11 2 x0 (nx (gpr s11 x0 12 (some a10)) fun s14 => ckL (0 : Int32) (ckC s14 (0 : Int32).toNatClampNeg (nx (gx s14) fun a17 => nx (gnew s14 107 (0 : Int32).toNatClampNeg (0 : Int32).toNatClampNeg) fun s18 => ckT s18 2 x0 (nx (gpr s18 x0 13 (some a17)) fun s21 => nx (gpi s21 x0 19 (-1 : Int32)) fun s22 => ckL (0 : Int32) (ckC s22 (0 : Int32).toNatClampNeg (nx (gx s22) fun a25 => nx (gnew s22 108 (0 : Int32).toNatClampNeg (0 : Int32).toNatClampNeg) fun s26 => ckT s26 2 x0 (nx (gpr s26 x0 21 (some a25)) fun s29 => some s29))))))))))))
noncomputable def x_X3_init (σ : GS) (x0 : Nat) : Option GS := x_X3_init_0 σ x0
noncomputable def x_wrong_0 (σ : GS) (x0 : Nat) (x1 : Int32) (x2 : Int32) : Option (Int32 × GS) :=
  ckT σ 1 x0 (if (gi σ x0 8) = 0 then nx (gpi σ x0 8 (1 : Int32)) fun s3 => nx (gpi s3 x0 3 x1) fun s4 => nx (gpi s4 x0 4 x2) fun s5 => some ((0 : Int32), s5) else some ((0 : Int32), σ))
noncomputable def x_wrong (σ : GS) (x0 : Nat) (x1 : Int32) (x2 : Int32) : Option (Int32 × GS) := x_wrong_0 σ x0 x1 x2
noncomputable def x_has_28 (σ : GS) : Option (Int32 × GS) :=
  some ((1 : Int32), σ)
noncomputable def x_has_0 (σ : GS) (x0 : Nat) (x1 : Int64) : Option (Int32 × GS) :=
  ckT σ 1 x0 (ckK σ 101 (gr σ x0 2) fun a2 => if (lg_cmp x1 (((nI (gn σ a2)) - (gi σ x0 6)).toInt64)) ≤ 0 then x_has_28 σ else (x_wrong σ x0 (1 : Int32) (gi σ x0 6)).bind fun r6 => if r6.1 = 0 then some ((0 : Int32), r6.2) else x_has_28 r6.2)
noncomputable def x_has (σ : GS) (x0 : Nat) (x1 : Int64) : Option (Int32 × GS) := x_has_0 σ x0 x1
noncomputable def x_u2_0 (σ : GS) (x0 : Nat) (x1 : Int32) : Option Int32 :=
  ckT σ 1 x0 (ckK σ 101 (gr σ x0 2) fun a2 => ckIn x1 (gn σ a2) (ckIn (x1 + (1 : Int32)) (gn σ a2) (some ((((gi σ a2 x1.toNatClampNeg) &&& (255 : Int32)) <<< ((8 : Int32) &&& 31)) ||| ((gi σ a2 (x1 + (1 : Int32)).toNatClampNeg) &&& (255 : Int32))))))
noncomputable def x_u2 (σ : GS) (x0 : Nat) (x1 : Int32) : Option Int32 := x_u2_0 σ x0 x1
noncomputable def x_u4_0 (σ : GS) (x0 : Nat) (x1 : Int32) : Option Int32 :=
  ckT σ 1 x0 ((x_u2 σ x0 x1).bind fun r2 => (x_u2 σ x0 (x1 + (2 : Int32))).bind fun r4 => some ((r2 <<< ((16 : Int32) &&& 31)) ||| r4))
noncomputable def x_u4 (σ : GS) (x0 : Nat) (x1 : Int32) : Option Int32 := x_u4_0 σ x0 x1
noncomputable def x_next4_0 (σ : GS) (x0 : Nat) : Option (Int64 × GS) :=
  ckT σ 1 x0 ((x_has σ x0 (4 : Int64)).bind fun r2 => if r2.1 = 0 then some ((0 : Int64), r2.2) else ckT r2.2 1 x0 (nx (gpi r2.2 x0 6 ((gi r2.2 x0 6) + (4 : Int32))) fun s6 => (x_u4 s6 x0 ((gi s6 x0 6) - (4 : Int32))).bind fun r7 => some (r7.toInt64 &&& (4294967295 : Int64), s6)))
noncomputable def x_next4 (σ : GS) (x0 : Nat) : Option (Int64 × GS) := x_next4_0 σ x0
noncomputable def x_next2_0 (σ : GS) (x0 : Nat) : Option (Int32 × GS) :=
  ckT σ 1 x0 ((x_has σ x0 (2 : Int64)).bind fun r2 => if r2.1 = 0 then some ((0 : Int32), r2.2) else ckT r2.2 1 x0 (nx (gpi r2.2 x0 6 ((gi r2.2 x0 6) + (2 : Int32))) fun s6 => (x_u2 s6 x0 ((gi s6 x0 6) - (2 : Int32))).bind fun r7 => some (r7, s6)))
noncomputable def x_next2 (σ : GS) (x0 : Nat) : Option (Int32 × GS) := x_next2_0 σ x0
noncomputable def x_u1_0 (σ : GS) (x0 : Nat) (x1 : Int32) : Option Int32 :=
  ckT σ 1 x0 (ckK σ 101 (gr σ x0 2) fun a2 => ckIn x1 (gn σ a2) (some ((gi σ a2 x1.toNatClampNeg) &&& (255 : Int32))))
noncomputable def x_u1 (σ : GS) (x0 : Nat) (x1 : Int32) : Option Int32 := x_u1_0 σ x0 x1
noncomputable def x_J12_newLength_0 (σ : GS) (x0 : Int32) (x1 : Int32) (x2 : Int32) : Option Int32 :=
  nx (x0 + (if x1 < x2 then x2 else x1)) fun y1 => if y1 ≤ (0 : Int32) then (none : Option Int32) else if (2147483639 : Int32) < y1 then (none : Option Int32) else some y1
noncomputable def x_J12_newLength (σ : GS) (x0 : Int32) (x1 : Int32) (x2 : Int32) : Option Int32 := x_J12_newLength_0 σ x0 x1 x2
noncomputable def x_J0_newCapacity_0 (σ : GS) (x0 : Nat) (x1 : Int32) : Option Int32 :=
  ckT σ 5 x0 (ckK σ 101 (gr σ x0 0) fun a2 => nx (nI (gn σ a2)) fun y5 => nx (x1 <<< ((gi σ x0 1) &&& 31)) fun y6 => nx (y6 - y5) fun y7 => (x_J12_newLength σ y5 y7 (y5 + ((2 : Int32) <<< ((gi σ x0 1) &&& 31)))).bind fun r8 => if r8 = (2147483647 : Int32) then (none : Option Int32) else some (r8 >>> ((gi σ x0 1) &&& 31)))
noncomputable def x_J0_newCapacity (σ : GS) (x0 : Nat) (x1 : Int32) : Option Int32 := x_J0_newCapacity_0 σ x0 x1
noncomputable def x_J13_copyOf_0 (σ : GS) (x0 : Nat) (x1 : Int32) : Option (Option Nat × GS) :=
  ckT σ 101 x0 (if x1 = (nI (gn σ x0)) then ckW σ x0 (ckC σ (gn σ x0) (nx (gx σ) fun a13 => nx (gcln σ x0) fun s14 => ckW s14 a13 (some (some a13, s14)))) else ckL x1 (ckC σ x1.toNatClampNeg (nx (gx σ) fun a5 => nx (gnew σ 101 x1.toNatClampNeg x1.toNatClampNeg) fun s6 => ckT s6 101 x0 (ckY s6 x0 a5 (0 : Int32) (0 : Int32) (if x1 < (nI (gn s6 x0)) then x1 else (nI (gn s6 x0))) (nx (gcpy s6 x0 a5 (0 : Int32).toNatClampNeg (0 : Int32).toNatClampNeg (if x1 < (nI (gn s6 x0)) then x1 else (nI (gn s6 x0))).toNatClampNeg) fun s10 => some (some a5, s10))))))
noncomputable def x_J13_copyOf (σ : GS) (x0 : Nat) (x1 : Int32) : Option (Option Nat × GS) := x_J13_copyOf_0 σ x0 x1
noncomputable def x_J0_ensureCapacityInternal_0 (σ : GS) (x0 : Nat) (x1 : Int32) : Option GS :=
  ckT σ 5 x0 (ckK σ 101 (gr σ x0 0) fun a2 => nx ((nI (gn σ a2)) >>> ((gi σ x0 1) &&& 31)) fun y5 => if (x1 - y5) ≤ 0 then some σ else (x_J0_newCapacity σ x0 x1).bind fun r7 => (x_J13_copyOf σ a2 (r7 <<< ((gi σ x0 1) &&& 31))).bind fun r9 => ckT r9.2 5 x0 (nx (gpr r9.2 x0 0 r9.1) fun s12 => some s12))
noncomputable def x_J0_ensureCapacityInternal (σ : GS) (x0 : Nat) (x1 : Int32) : Option GS := x_J0_ensureCapacityInternal_0 σ x0 x1
noncomputable def x_J0_isLatin1_17 (σ : GS) : Option Int32 :=
  some (0 : Int32)
noncomputable def x_J0_isLatin1_0 (σ : GS) (x0 : Nat) : Option Int32 :=
  if (1 : Int32) = 0 then x_J0_isLatin1_17 σ else ckT σ 5 x0 (if (gi σ x0 1) = 0 then some (1 : Int32) else x_J0_isLatin1_17 σ)
noncomputable def x_J0_isLatin1 (σ : GS) (x0 : Nat) : Option Int32 := x_J0_isLatin1_0 σ x0
noncomputable def x_J0_setLength_76 (σ : GS) (x0 : Nat) (x1 : Int32) : Option GS :=
  ckT σ 5 x0 (nx (gpi σ x0 3 x1) fun s2 => some s2)
noncomputable def x_J0_setLength_0 (σ : GS) (x0 : Nat) (x1 : Int32) : Option GS :=
  if 0 ≤ x1 then ckT σ 5 x0 ((x_J0_ensureCapacityInternal σ x0 x1).bind fun r3 => ckT r3 5 x0 (if x1 ≤ (gi r3 x0 3) then if (gi r3 x0 3) ≤ x1 then x_J0_setLength_76 r3 x0 x1 else nx (gpi r3 x0 2 (1 : Int32)) fun s8 => x_J0_setLength_76 s8 x0 x1 else (x_J0_isLatin1 r3 x0).bind fun r9 => if r9 = 0 then (none : Option GS) else (none : Option GS))) else (none : Option GS)
noncomputable def x_J0_setLength (σ : GS) (x0 : Nat) (x1 : Int32) : Option GS := x_J0_setLength_0 σ x0 x1
noncomputable def x_J1_setLength_0 (σ : GS) (x0 : Nat) (x1 : Int32) : Option GS :=
  ckT σ 5 x0 ((x_J0_setLength σ x0 x1).bind fun r2 => some r2)
noncomputable def x_J1_setLength (σ : GS) (x0 : Nat) (x1 : Int32) : Option GS := x_J1_setLength_0 σ x0 x1
noncomputable def x_J4_canEncode_0 (σ : GS) (x0 : Int32) : Option Int32 :=
  if (255 : Int32) < x0 then some (0 : Int32) else some (1 : Int32)
noncomputable def x_J4_canEncode (σ : GS) (x0 : Int32) : Option Int32 := x_J4_canEncode_0 σ x0
noncomputable def x_J3_length_0 (σ : GS) (x0 : Nat) : Option Int32 :=
  ckT σ 101 x0 (some ((nI (gn σ x0)) >>> ((1 : Int32) &&& 31)))
noncomputable def x_J3_length (σ : GS) (x0 : Nat) : Option Int32 := x_J3_length_0 σ x0
noncomputable def x_J5_checkFromIndexSize_0 (σ : GS) (x0 : Int32) (x1 : Int32) (x2 : Int32) : Option Int32 :=
  if ((x2 ||| x0) ||| x1) < 0 then (none : Option Int32) else if x1 ≤ (x2 - x0) then some x0 else (none : Option Int32)
noncomputable def x_J5_checkFromIndexSize (σ : GS) (x0 : Int32) (x1 : Int32) (x2 : Int32) : Option Int32 := x_J5_checkFromIndexSize_0 σ x0 x1 x2
noncomputable def x_J2_checkBoundsOffCount_0 (σ : GS) (x0 : Int32) (x1 : Int32) (x2 : Int32) : Option Int32 :=
  (x_J5_checkFromIndexSize σ x0 x1 x2).bind fun r2 => some r2
noncomputable def x_J2_checkBoundsOffCount (σ : GS) (x0 : Int32) (x1 : Int32) (x2 : Int32) : Option Int32 := x_J2_checkBoundsOffCount_0 σ x0 x1 x2
noncomputable def x_J3_checkBoundsOffCount_0 (σ : GS) (x0 : Int32) (x1 : Int32) (x2 : Nat) : Option Unit :=
  (x_J3_length σ x2).bind fun r1 => (x_J2_checkBoundsOffCount σ x0 x1 r1).bind fun r3 => some ()
noncomputable def x_J3_checkBoundsOffCount (σ : GS) (x0 : Int32) (x1 : Int32) (x2 : Nat) : Option Unit := x_J3_checkBoundsOffCount_0 σ x0 x1 x2
noncomputable def x_J3_putChar_18 (σ : GS) : Option GS :=
  (none : Option GS)
noncomputable def x_J3_putChar_28 (σ : GS) (x0 : Nat) (x1 : Int32) (x2 : Int32) : Option GS :=
  nx (x1 <<< ((1 : Int32) &&& 31)) fun y1 => nx (y1 + (1 : Int32)) fun y2 => ckT σ 101 x0 (ckW σ x0 (ckIn y1 (gn σ x0) (nx (gpi σ x0 y1.toNatClampNeg ((x2 >>> ((0 : Int32) &&& 31)).toInt8.toInt32).toInt8.toInt32) fun s6 => ckW s6 x0 (ckIn y2 (gn s6 x0) (nx (gpi s6 x0 y2.toNatClampNeg ((x2 >>> ((8 : Int32) &&& 31)).toInt8.toInt32).toInt8.toInt32) fun s9 => some s9)))))
noncomputable def x_J3_putChar_0 (σ : GS) (x0 : Nat) (x1 : Int32) (x2 : Int32) : Option GS :=
  if (1 : Int32) = 0 then if x1 < 0 then x_J3_putChar_18 σ else (x_J3_length σ x0).bind fun r3 => if x1 < r3 then x_J3_putChar_28 σ x0 x1 x2 else x_J3_putChar_18 σ else x_J3_putChar_28 σ x0 x1 x2
noncomputable def x_J3_putChar (σ : GS) (x0 : Nat) (x1 : Int32) (x2 : Int32) : Option GS := x_J3_putChar_0 σ x0 x1 x2
noncomputable def x_J3_inflate_10 (fu : Nat) (k10 : GS → Nat → Int32 → Nat → Int32 → Int32 → Int32 → Option GS) (σ : GS) (x0 : Nat) (x1 : Int32) (x2 : Nat) (x3 : Int32) (x4 : Int32) (x5 : Int32) : Option GS :=
  if x4 ≤ x5 then some σ else nx (x3 + (1 : Int32)) fun y2 => nx (x1 + (1 : Int32)) fun y3 => ckT σ 101 x0 (ckIn x1 (gn σ x0) ((x_J3_putChar σ x2 x3 ((gi σ x0 x1.toNatClampNeg) &&& (255 : Int32))).bind fun r6 => nx (x5 + (1 : Int32)) fun y8 => k10 r6 x0 y3 x2 y2 x4 y8))
noncomputable def x_J3_inflate_10L (fu : Nat) (n : Nat) : GS → Nat → Int32 → Nat → Int32 → Int32 → Int32 → Option GS := lpF (F := GS → Nat → Int32 → Nat → Int32 → Int32 → Int32 → Option GS) (fun _ _ _ _ _ _ _ => none) (fun k => x_J3_inflate_10 fu k) n
noncomputable def x_J3_inflate_0 (fu : Nat) (σ : GS) (x0 : Nat) (x1 : Int32) (x2 : Nat) (x3 : Int32) (x4 : Int32) : Option GS :=
  (x_J3_checkBoundsOffCount σ x3 x4 x2).bind fun r1 => x_J3_inflate_10L fu fu σ x0 x1 x2 x3 x4 (0 : Int32)
noncomputable def x_J3_inflate (fu : Nat) (σ : GS) (x0 : Nat) (x1 : Int32) (x2 : Nat) (x3 : Int32) (x4 : Int32) : Option GS := x_J3_inflate_0 fu σ x0 x1 x2 x3 x4
noncomputable def x_J4_inflate_0 (fu : Nat) (σ : GS) (x0 : Nat) (x1 : Int32) (x2 : Nat) (x3 : Int32) (x4 : Int32) : Option GS :=
  (x_J3_inflate fu σ x0 x1 x2 x3 x4).bind fun r1 => some r1
noncomputable def x_J4_inflate (fu : Nat) (σ : GS) (x0 : Nat) (x1 : Int32) (x2 : Nat) (x3 : Int32) (x4 : Int32) : Option GS := x_J4_inflate_0 fu σ x0 x1 x2 x3 x4
noncomputable def x_J0_inflate_0 (fu : Nat) (σ : GS) (x0 : Nat) : Option GS :=
  ckT σ 5 x0 ((x_J0_isLatin1 σ x0).bind fun r2 => if r2 = 0 then some σ else ckK σ 101 (gr σ x0 0) fun a5 => (x_J3_newBytesFor σ (nI (gn σ a5))).bind fun r8 => ckT r8.2 5 x0 (ckR (gr r8.2 x0 0) fun a11 => ckR r8.1 fun a14 => (x_J4_inflate fu r8.2 a11 (0 : Int32) a14 (0 : Int32) (gi r8.2 x0 3)).bind fun r17 => ckT r17 5 x0 (nx (gpr r17 x0 0 r8.1) fun s20 => nx (gpi s20 x0 1 (1 : Int32)) fun s21 => some s21)))
noncomputable def x_J0_inflate (fu : Nat) (σ : GS) (x0 : Nat) : Option GS := x_J0_inflate_0 fu σ x0
noncomputable def x_J5_checkIndex_0 (σ : GS) (x0 : Int32) (x1 : Int32) : Option Int32 :=
  if x0 < 0 then (none : Option Int32) else if x0 < x1 then some x0 else (none : Option Int32)
noncomputable def x_J5_checkIndex (σ : GS) (x0 : Int32) (x1 : Int32) : Option Int32 := x_J5_checkIndex_0 σ x0 x1
noncomputable def x_J2_checkIndex_0 (σ : GS) (x0 : Int32) (x1 : Int32) : Option Unit :=
  (x_J5_checkIndex σ x0 x1).bind fun r2 => some ()
noncomputable def x_J2_checkIndex (σ : GS) (x0 : Int32) (x1 : Int32) : Option Unit := x_J2_checkIndex_0 σ x0 x1
noncomputable def x_J3_checkIndex_0 (σ : GS) (x0 : Int32) (x1 : Nat) : Option Unit :=
  (x_J3_length σ x1).bind fun r1 => (x_J2_checkIndex σ x0 r1).bind fun r3 => some ()
noncomputable def x_J3_checkIndex (σ : GS) (x0 : Int32) (x1 : Nat) : Option Unit := x_J3_checkIndex_0 σ x0 x1
noncomputable def x_J3_putCharSB_0 (σ : GS) (x0 : Nat) (x1 : Int32) (x2 : Int32) : Option GS :=
  (x_J3_checkIndex σ x1 x0).bind fun r1 => (x_J3_putChar σ x0 x1 x2).bind fun r3 => some r3
noncomputable def x_J3_putCharSB (σ : GS) (x0 : Nat) (x1 : Int32) (x2 : Int32) : Option GS := x_J3_putCharSB_0 σ x0 x1 x2
noncomputable def x_J0_append_3_56 (fu : Nat) (σ : GS) (x0 : Nat) (x1 : Int32) : Option (Option Nat × GS) :=
  ckT σ 5 x0 (nx (gpi σ x0 3 ((gi σ x0 3) + (1 : Int32))) fun s2 => ckR (gr σ x0 0) fun a3 => (x_J3_putCharSB s2 a3 (gi σ x0 3) x1).bind fun r6 => some (some x0, r6))
noncomputable def x_J0_append_3_45 (fu : Nat) (σ : GS) (x0 : Nat) (x1 : Int32) : Option (Option Nat × GS) :=
  ckT σ 5 x0 ((x_J0_isLatin1 σ x0).bind fun r2 => if r2 = 0 then x_J0_append_3_56 fu σ x0 x1 else (x_J0_inflate fu σ x0).bind fun r5 => x_J0_append_3_56 fu r5 x0 x1)
noncomputable def x_J0_append_3_0 (fu : Nat) (σ : GS) (x0 : Nat) (x1 : Int32) : Option (Option Nat × GS) :=
  ckT σ 5 x0 ((x_J0_ensureCapacityInternal σ x0 ((gi σ x0 3) + (1 : Int32))).bind fun r2 => ckT r2 5 x0 ((x_J0_isLatin1 r2 x0).bind fun r5 => if r5 = 0 then x_J0_append_3_45 fu r2 x0 x1 else (x_J4_canEncode r2 x1).bind fun r8 => if r8 = 0 then x_J0_append_3_45 fu r2 x0 x1 else nx (gpi r2 x0 3 ((gi r2 x0 3) + (1 : Int32))) fun s11 => ckK s11 101 (gr r2 x0 0) fun a12 => ckW s11 a12 (ckIn (gi r2 x0 3) (gn s11 a12) (nx (gpi s11 a12 (gi r2 x0 3).toNatClampNeg x1.toInt8.toInt32.toInt8.toInt32) fun s17 => some (some x0, s17)))))
noncomputable def x_J0_append_3 (fu : Nat) (σ : GS) (x0 : Nat) (x1 : Int32) : Option (Option Nat × GS) := x_J0_append_3_0 fu σ x0 x1
noncomputable def x_J1_append_3_0 (fu : Nat) (σ : GS) (x0 : Nat) (x1 : Int32) : Option (Option Nat × GS) :=
  ckT σ 5 x0 ((x_J0_append_3 fu σ x0 x1).bind fun r2 => some (some x0, r2.2))
noncomputable def x_J1_append_3 (fu : Nat) (σ : GS) (x0 : Nat) (x1 : Int32) : Option (Option Nat × GS) := x_J1_append_3_0 fu σ x0 x1
noncomputable def x_J0_getValue_0 (σ : GS) (x0 : Nat) : Option (Option Nat) :=
  ckT σ 5 x0 (some (gr σ x0 0))
noncomputable def x_J0_getValue (σ : GS) (x0 : Nat) : Option (Option Nat) := x_J0_getValue_0 σ x0
noncomputable def x_J0_length_0 (σ : GS) (x0 : Nat) : Option Int32 :=
  ckT σ 5 x0 (some (gi σ x0 3))
noncomputable def x_J0_length (σ : GS) (x0 : Nat) : Option Int32 := x_J0_length_0 σ x0
noncomputable def x_J1_length_0 (σ : GS) (x0 : Nat) : Option Int32 :=
  ckT σ 5 x0 ((x_J0_length σ x0).bind fun r2 => some r2)
noncomputable def x_J1_length (σ : GS) (x0 : Nat) : Option Int32 := x_J1_length_0 σ x0
noncomputable def x_J13_checkLength_0 (σ : GS) (x0 : Int32) (x1 : Int32) : Option Unit :=
  if x0 ≤ x1 then some () else (none : Option Unit)
noncomputable def x_J13_checkLength (σ : GS) (x0 : Int32) (x1 : Int32) : Option Unit := x_J13_checkLength_0 σ x0 x1
noncomputable def x_J13_copyOfRangeByte_0 (σ : GS) (x0 : Nat) (x1 : Int32) (x2 : Int32) : Option (Option Nat × GS) :=
  (x_J13_checkLength σ x1 x2).bind fun r1 => nx (x2 - x1) fun y3 => ckL y3 (ckC σ y3.toNatClampNeg (nx (gx σ) fun a6 => nx (gnew σ 101 y3.toNatClampNeg y3.toNatClampNeg) fun s7 => ckT s7 101 x0 (ckY s7 x0 a6 x1 (0 : Int32) (if y3 < ((nI (gn s7 x0)) - x1) then y3 else ((nI (gn s7 x0)) - x1)) (nx (gcpy s7 x0 a6 x1.toNatClampNeg (0 : Int32).toNatClampNeg (if y3 < ((nI (gn s7 x0)) - x1) then y3 else ((nI (gn s7 x0)) - x1)).toNatClampNeg) fun s11 => some (some a6, s11)))))
noncomputable def x_J13_copyOfRangeByte (σ : GS) (x0 : Nat) (x1 : Int32) (x2 : Int32) : Option (Option Nat × GS) := x_J13_copyOfRangeByte_0 σ x0 x1 x2
noncomputable def x_J13_copyOfRange_10 (σ : GS) (x0 : Nat) (x1 : Int32) (x2 : Int32) : Option (Option Nat × GS) :=
  (x_J13_copyOfRangeByte σ x0 x1 x2).bind fun r1 => some (r1.1, r1.2)
noncomputable def x_J13_copyOfRange_0 (σ : GS) (x0 : Nat) (x1 : Int32) (x2 : Int32) : Option (Option Nat × GS) :=
  if x1 = 0 then ckT σ 101 x0 (if x2 = (nI (gn σ x0)) then ckW σ x0 (ckC σ (gn σ x0) (nx (gx σ) fun a6 => nx (gcln σ x0) fun s7 => ckW s7 a6 (some (some a6, s7)))) else x_J13_copyOfRange_10 σ x0 x1 x2) else x_J13_copyOfRange_10 σ x0 x1 x2
noncomputable def x_J13_copyOfRange (σ : GS) (x0 : Nat) (x1 : Int32) (x2 : Int32) : Option (Option Nat × GS) := x_J13_copyOfRange_0 σ x0 x1 x2
noncomputable def x_J3_getChar_18 (σ : GS) : Option Int32 :=
  (none : Option Int32)
noncomputable def x_J3_getChar_28 (σ : GS) (x0 : Nat) (x1 : Int32) : Option Int32 :=
  nx (x1 <<< ((1 : Int32) &&& 31)) fun y1 => nx (y1 + (1 : Int32)) fun y2 => ckT σ 101 x0 (ckIn y1 (gn σ x0) (ckIn y2 (gn σ x0) (ckN .char ((((((gi σ x0 y1.toNatClampNeg) &&& (255 : Int32)) <<< ((0 : Int32) &&& 31)) ||| (((gi σ x0 y2.toNatClampNeg) &&& (255 : Int32)) <<< ((8 : Int32) &&& 31))).toUInt32 % 65536).toInt32) (some ((((((gi σ x0 y1.toNatClampNeg) &&& (255 : Int32)) <<< ((0 : Int32) &&& 31)) ||| (((gi σ x0 y2.toNatClampNeg) &&& (255 : Int32)) <<< ((8 : Int32) &&& 31))).toUInt32 % 65536).toInt32)))))
noncomputable def x_J3_getChar_0 (σ : GS) (x0 : Nat) (x1 : Int32) : Option Int32 :=
  if (1 : Int32) = 0 then if x1 < 0 then x_J3_getChar_18 σ else (x_J3_length σ x0).bind fun r3 => if x1 < r3 then x_J3_getChar_28 σ x0 x1 else x_J3_getChar_18 σ else x_J3_getChar_28 σ x0 x1
noncomputable def x_J3_getChar (σ : GS) (x0 : Nat) (x1 : Int32) : Option Int32 := x_J3_getChar_0 σ x0 x1
noncomputable def x_J3_compress_2_10 (fu : Nat) (k10 : GS → Nat → Int32 → Nat → Int32 → Int32 → Int32 → Option (Int32 × GS)) (σ : GS) (x0 : Nat) (x1 : Int32) (x2 : Nat) (x3 : Int32) (x4 : Int32) (x5 : Int32) : Option (Int32 × GS) :=
  if x4 ≤ x5 then some (x4, σ) else (x_J3_getChar σ x0 x1).bind fun r2 => if r2 ≤ (255 : Int32) then ckT σ 101 x2 (ckW σ x2 (ckIn x3 (gn σ x2) (nx (gpi σ x2 x3.toNatClampNeg r2.toInt8.toInt32.toInt8.toInt32) fun s8 => nx (x1 + (1 : Int32)) fun y9 => nx (x3 + (1 : Int32)) fun y10 => nx (x5 + (1 : Int32)) fun y11 => k10 s8 x0 y9 x2 y10 x4 y11))) else some (x5, σ)
noncomputable def x_J3_compress_2_10L (fu : Nat) (n : Nat) : GS → Nat → Int32 → Nat → Int32 → Int32 → Int32 → Option (Int32 × GS) := lpF (F := GS → Nat → Int32 → Nat → Int32 → Int32 → Int32 → Option (Int32 × GS)) (fun _ _ _ _ _ _ _ => none) (fun k => x_J3_compress_2_10 fu k) n
noncomputable def x_J3_compress_2_0 (fu : Nat) (σ : GS) (x0 : Nat) (x1 : Int32) (x2 : Nat) (x3 : Int32) (x4 : Int32) : Option (Int32 × GS) :=
  (x_J3_checkBoundsOffCount σ x1 x4 x0).bind fun r1 => x_J3_compress_2_10L fu fu σ x0 x1 x2 x3 x4 (0 : Int32)
noncomputable def x_J3_compress_2 (fu : Nat) (σ : GS) (x0 : Nat) (x1 : Int32) (x2 : Nat) (x3 : Int32) (x4 : Int32) : Option (Int32 × GS) := x_J3_compress_2_0 fu σ x0 x1 x2 x3 x4
noncomputable def x_J3_compress_61 (fu : Nat) (σ : GS) (x5 : Option Nat) : Option (Option Nat × GS) :=
  some (x5, σ)
noncomputable def x_J3_compress_0 (fu : Nat) (σ : GS) (x0 : Nat) (x1 : Int32) (x2 : Int32) : Option (Option Nat × GS) :=
  ckL x2 (ckC σ x2.toNatClampNeg (nx (gx σ) fun a3 => nx (gnew σ 101 x2.toNatClampNeg x2.toNatClampNeg) fun s4 => (x_J3_compress_2 fu s4 x0 x1 a3 (0 : Int32) x2).bind fun r6 => if r6.1 = x2 then some (some a3, r6.2) else (x_J3_newBytesLength r6.2 (x1 + x2)).bind fun r9 => (x_J13_copyOfRange r6.2 x0 (x1 <<< ((1 : Int32) &&& 31)) r9).bind fun r11 => ckR r11.1 fun a13 => (x_J3_getChar r11.2 a13 r6.1).bind fun r16 => if (255 : Int32) < r16 then x_J3_compress_61 fu r11.2 r11.1 else (x_J3_compress_2 fu r11.2 a13 (0 : Int32) a3 (0 : Int32) x2).bind fun r19 => if r19.1 = x2 then some (some a3, r19.2) else x_J3_compress_61 fu r19.2 r11.1))
noncomputable def x_J3_compress (fu : Nat) (σ : GS) (x0 : Nat) (x1 : Int32) (x2 : Int32) : Option (Option Nat × GS) := x_J3_compress_0 fu σ x0 x1 x2
noncomputable def x_J3_coderFromArrayLen_0 (σ : GS) (x0 : Nat) (x1 : Int32) : Option Int32 :=
  ckT σ 101 x0 (ckN .byte ((((x1 - (nI (gn σ x0))).toUInt32 >>> ((31 : Int32).toUInt32 &&& Int32.toUInt32 31)).toInt32).toInt8.toInt32) (some ((((x1 - (nI (gn σ x0))).toUInt32 >>> ((31 : Int32).toUInt32 &&& Int32.toUInt32 31)).toInt32).toInt8.toInt32)))
noncomputable def x_J3_coderFromArrayLen (σ : GS) (x0 : Nat) (x1 : Int32) : Option Int32 := x_J3_coderFromArrayLen_0 σ x0 x1
noncomputable def x_J2_init_2_79 (fu : Nat) (σ : GS) (x0 : Nat) (x3 : Option Nat) (x4 : Int32) : Option GS :=
  ckT σ 6 x0 (ckW σ x0 (nx (gpi σ x0 1 (1 : Int32)) fun s3 => ckR x3 fun a4 => (x_J13_copyOfRange s3 a4 (0 : Int32) (x4 <<< ((1 : Int32) &&& 31))).bind fun r7 => ckT r7.2 6 x0 (ckW r7.2 x0 (nx (gpr r7.2 x0 0 r7.1) fun s11 => some s11))))
noncomputable def x_J2_init_2_0 (fu : Nat) (σ : GS) (x0 : Nat) (x1 : Nat) : Option GS :=
  ckT σ 5 x1 ((x_J0_getValue σ x1).bind fun r2 => (x_J1_length σ x1).bind fun r4 => (x_J0_isLatin1 σ x1).bind fun r6 => if r6 = 0 then if (1 : Int32) = 0 then x_J2_init_2_79 fu σ x0 r2 r4 else if (gi σ x1 2) = 0 then x_J2_init_2_79 fu σ x0 r2 r4 else ckR r2 fun a11 => (x_J3_compress fu σ a11 (0 : Int32) r4).bind fun r14 => ckT r14.2 6 x0 (ckW r14.2 x0 (nx (gpr r14.2 x0 0 r14.1) fun s18 => ckR (gr s18 x0 0) fun a19 => (x_J3_coderFromArrayLen s18 a19 r4).bind fun r22 => ckW s18 x0 (ckN .byte r22 (nx (gpi s18 x0 1 r22) fun s26 => some s26)))) else ckT σ 6 x0 (ckW σ x0 (nx (gpi σ x0 1 (0 : Int32)) fun s29 => ckR r2 fun a30 => (x_J13_copyOfRange s29 a30 (0 : Int32) r4).bind fun r33 => ckT r33.2 6 x0 (ckW r33.2 x0 (nx (gpr r33.2 x0 0 r33.1) fun s37 => some s37)))))
noncomputable def x_J2_init_2 (fu : Nat) (σ : GS) (x0 : Nat) (x1 : Nat) : Option GS := x_J2_init_2_0 fu σ x0 x1
noncomputable def x_J2_init_0 (fu : Nat) (σ : GS) (x0 : Nat) (x1 : Nat) : Option GS :=
  (x_J2_init_2 fu σ x0 x1).bind fun r1 => some r1
noncomputable def x_J2_init (fu : Nat) (σ : GS) (x0 : Nat) (x1 : Nat) : Option GS := x_J2_init_0 fu σ x0 x1
noncomputable def x_J1_toString_0 (fu : Nat) (σ : GS) (x0 : Nat) : Option (Option Nat × GS) :=
  ckC σ 4 (nx (gx σ) fun a2 => nx (gnew σ 6 0 4) fun s3 => (x_J2_init fu s3 a2 x0).bind fun r5 => some (some a2, r5))
noncomputable def x_J1_toString (fu : Nat) (σ : GS) (x0 : Nat) : Option (Option Nat × GS) := x_J1_toString_0 fu σ x0
noncomputable def x_readText_120 (fu : Nat) (σ : GS) (x0 : Nat) (x6 : Int32) : Option (Int32 × GS) :=
  ckT σ 1 x0 ((x_wrong σ x0 (6 : Int32) x6).bind fun r2 => ckN .boolean r2.1 (some (r2.1, r2.2)))
noncomputable def x_readText_199 (fu : Nat) (σ : GS) (x0 : Nat) (x6 : Int32) : Option (Int32 × GS) :=
  ckT σ 1 x0 ((x_wrong σ x0 (6 : Int32) x6).bind fun r2 => ckN .boolean r2.1 (some (r2.1, r2.2)))
noncomputable def x_readText_163 (fu : Nat) (k49 : GS → Nat → Nat → Int32 → Option Nat → Int32 → Int32 → Option (Int32 × GS)) (k163 : GS → Nat → Nat → Int32 → Option Nat → Int32 → Int32 → Int32 → Int32 → Int32 → Option (Int32 × GS)) (σ : GS) (x0 : Nat) (x1 : Nat) (x2 : Int32) (x4 : Option Nat) (x5 : Int32) (x6 : Int32) (x8 : Int32) (x9 : Int32) (x10 : Int32) : Option (Int32 × GS) :=
  if x8 < x10 then ckK σ 5 x4 fun a2 => (x_J1_append_3 fu σ a2 ((x9.toUInt32 % 65536).toInt32)).bind fun r5 => nx (x6 + (x8 + (1 : Int32))) fun y7 => k49 r5.2 x0 x1 x2 x4 x5 y7 else if x5 ≤ (x6 + x10) then x_readText_199 fu σ x0 x6 else ckT σ 1 x0 ((x_u1 σ x0 (x6 + x10)).bind fun r10 => if (r10 &&& (192 : Int32)) = (128 : Int32) then (x_u1 σ x0 (x6 + x10)).bind fun r13 => nx ((x9 <<< ((6 : Int32) &&& 31)) ||| (r13 &&& (63 : Int32))) fun y15 => nx (x10 + (1 : Int32)) fun y16 => k163 σ x0 x1 x2 x4 x5 x6 x8 y15 y16 else x_readText_199 fu σ x0 x6)
noncomputable def x_readText_163L (fu : Nat) (k49 : GS → Nat → Nat → Int32 → Option Nat → Int32 → Int32 → Option (Int32 × GS)) (n : Nat) : GS → Nat → Nat → Int32 → Option Nat → Int32 → Int32 → Int32 → Int32 → Int32 → Option (Int32 × GS) := lpF (F := GS → Nat → Nat → Int32 → Option Nat → Int32 → Int32 → Int32 → Int32 → Int32 → Option (Int32 × GS)) (fun _ _ _ _ _ _ _ _ _ _ => none) (fun k => x_readText_163 fu k49 k) n
noncomputable def x_readText_158 (fu : Nat) (k49 : GS → Nat → Nat → Int32 → Option Nat → Int32 → Int32 → Option (Int32 × GS)) (σ : GS) (x0 : Nat) (x1 : Nat) (x2 : Int32) (x4 : Option Nat) (x5 : Int32) (x6 : Int32) (x8 : Int32) (t0 : Int32) : Option (Int32 × GS) :=
  x_readText_163L fu k49 fu σ x0 x1 x2 x4 x5 x6 x8 t0 (1 : Int32)
noncomputable def x_readText_129 (fu : Nat) (k49 : GS → Nat → Nat → Int32 → Option Nat → Int32 → Int32 → Option (Int32 × GS)) (σ : GS) (x0 : Nat) (x1 : Nat) (x2 : Int32) (x4 : Option Nat) (x5 : Int32) (x6 : Int32) (x7 : Int32) (x8 : Int32) : Option (Int32 × GS) :=
  if x8 = 0 then x_readText_158 fu k49 σ x0 x1 x2 x4 x5 x6 x8 x7 else if x8 = (1 : Int32) then x_readText_158 fu k49 σ x0 x1 x2 x4 x5 x6 x8 (x7 &&& (31 : Int32)) else x_readText_158 fu k49 σ x0 x1 x2 x4 x5 x6 x8 (x7 &&& (15 : Int32))
noncomputable def x_readText_89 (fu : Nat) (k49 : GS → Nat → Nat → Int32 → Option Nat → Int32 → Int32 → Option (Int32 × GS)) (σ : GS) (x0 : Nat) (x1 : Nat) (x2 : Int32) (x4 : Option Nat) (x5 : Int32) (x6 : Int32) (x7 : Int32) (t0 : Int32) : Option (Int32 × GS) :=
  if x7 = 0 then x_readText_120 fu σ x0 x6 else if (240 : Int32) ≤ x7 then x_readText_120 fu σ x0 x6 else if x7 < (128 : Int32) then x_readText_129 fu k49 σ x0 x1 x2 x4 x5 x6 x7 t0 else if (192 : Int32) ≤ x7 then x_readText_129 fu k49 σ x0 x1 x2 x4 x5 x6 x7 t0 else x_readText_120 fu σ x0 x6
noncomputable def x_readText_49 (fu : Nat) (k49 : GS → Nat → Nat → Int32 → Option Nat → Int32 → Int32 → Option (Int32 × GS)) (σ : GS) (x0 : Nat) (x1 : Nat) (x2 : Int32) (x4 : Option Nat) (x5 : Int32) (x6 : Int32) : Option (Int32 × GS) :=
  if x5 ≤ x6 then ckT σ 2 x1 (ckK σ 5 x4 fun a3 => (x_J1_toString fu σ a3).bind fun r6 => ckK r6.2 105 (gr σ x1 11) fun a8 => ckK r6.2 6 r6.1 fun a11 => ckIn x2 (gn r6.2 a8) (nx (gpr r6.2 a8 x2.toNatClampNeg r6.1) fun s15 => ckT s15 1 x0 (nx (gpi s15 x0 6 x5) fun s17 => some ((1 : Int32), s17)))) else ckT σ 1 x0 ((x_u1 σ x0 x6).bind fun r19 => if (128 : Int32) ≤ r19 then if (224 : Int32) ≤ r19 then x_readText_89 fu k49 σ x0 x1 x2 x4 x5 x6 r19 (2 : Int32) else x_readText_89 fu k49 σ x0 x1 x2 x4 x5 x6 r19 (1 : Int32) else x_readText_89 fu k49 σ x0 x1 x2 x4 x5 x6 r19 (0 : Int32))
noncomputable def x_readText_49L (fu : Nat) (n : Nat) : GS → Nat → Nat → Int32 → Option Nat → Int32 → Int32 → Option (Int32 × GS) := lpF (F := GS → Nat → Nat → Int32 → Option Nat → Int32 → Int32 → Option (Int32 × GS)) (fun _ _ _ _ _ _ _ => none) (fun k => x_readText_49 fu k) n
noncomputable def x_readText_0 (fu : Nat) (σ : GS) (x0 : Nat) (x1 : Nat) (x2 : Int32) : Option (Int32 × GS) :=
  ckT σ 1 x0 ((x_next2 σ x0).bind fun r2 => ckT r2.2 1 x0 (if (gi r2.2 x0 8) = 0 then (x_has r2.2 x0 r2.1.toInt64).bind fun r6 => if r6.1 = 0 then some ((0 : Int32), r6.2) else ckT r6.2 1 x0 (nx (gr r6.2 x0 11) fun y10 => ckK r6.2 5 y10 fun a11 => (x_J1_setLength r6.2 a11 (0 : Int32)).bind fun r14 => ckT r14 1 x0 (nx ((gi r14 x0 6) + r2.1) fun y17 => nx (gi r14 x0 6) fun y18 => x_readText_49L fu fu r14 x0 x1 x2 y10 y17 y18)) else some ((0 : Int32), r2.2)))
noncomputable def x_readText (fu : Nat) (σ : GS) (x0 : Nat) (x1 : Nat) (x2 : Int32) : Option (Int32 × GS) := x_readText_0 fu σ x0 x1 x2
noncomputable def x_readPool_217 (fu : Nat) (σ : GS) (x0 : Nat) : Option (Int32 × GS) :=
  ckT σ 1 x0 ((x_wrong σ x0 (5 : Int32) (gi σ x0 6)).bind fun r2 => ckN .boolean r2.1 (some (r2.1, r2.2)))
noncomputable def x_readPool_521 (fu : Nat) (k65 : GS → Nat → Nat → Int32 → Int32 → Option (Int32 × GS)) (σ : GS) (x0 : Nat) (x1 : Nat) (x2 : Int32) (t0 : Int32) (t1 : Int32) : Option (Int32 × GS) :=
  nx (t1 + t0) fun y1 => k65 σ x0 x1 x2 y1
noncomputable def x_readPool_516 (fu : Nat) (k65 : GS → Nat → Nat → Int32 → Int32 → Option (Int32 × GS)) (σ : GS) (x0 : Nat) (x1 : Nat) (x2 : Int32) (t0 : Int32) : Option (Int32 × GS) :=
  x_readPool_521 fu k65 σ x0 x1 x2 (2 : Int32) t0
noncomputable def x_readPool_492 (fu : Nat) (k65 : GS → Nat → Nat → Int32 → Int32 → Option (Int32 × GS)) (σ : GS) (x0 : Nat) (x1 : Nat) (x2 : Int32) (x4 : Int32) (x5 : Int32) : Option (Int32 × GS) :=
  ckT σ 1 x0 (if (gi σ x0 8) = 0 then if x5 = (5 : Int32) then x_readPool_516 fu k65 σ x0 x1 x2 x4 else if x5 = (6 : Int32) then x_readPool_516 fu k65 σ x0 x1 x2 x4 else x_readPool_521 fu k65 σ x0 x1 x2 (1 : Int32) x4 else some ((0 : Int32), σ))
noncomputable def x_readPool_309 (fu : Nat) (k65 : GS → Nat → Nat → Int32 → Int32 → Option (Int32 × GS)) (σ : GS) (x0 : Nat) (x1 : Nat) (x2 : Int32) (x4 : Int32) (x5 : Int32) : Option (Int32 × GS) :=
  ckT σ 2 x1 (ckT σ 1 x0 ((x_next4 σ x0).bind fun r3 => ckK r3.2 104 (gr σ x1 10) fun a5 => ckIn x4 (gn r3.2 a5) (nx (gpl r3.2 a5 x4.toNatClampNeg r3.1.toInt32.toInt64) fun s9 => x_readPool_492 fu k65 s9 x0 x1 x2 x4 x5)))
noncomputable def x_readPool_359 (fu : Nat) (k65 : GS → Nat → Nat → Int32 → Int32 → Option (Int32 × GS)) (σ : GS) (x0 : Nat) (x1 : Nat) (x2 : Int32) (x4 : Int32) (x5 : Int32) (x8 : Int64) (t0 : Int64) : Option (Int32 × GS) :=
  ckT σ 2 x1 (ckK σ 104 (gr σ x1 10) fun a2 => ckIn x4 (gn σ a2) (nx (gpl σ a2 x4.toNatClampNeg ((x8 <<< ((32 : Int32).toInt64 &&& 63)) ||| t0)) fun s6 => x_readPool_492 fu k65 s6 x0 x1 x2 x4 x5))
noncomputable def x_readPool_338 (fu : Nat) (k65 : GS → Nat → Nat → Int32 → Int32 → Option (Int32 × GS)) (σ : GS) (x0 : Nat) (x1 : Nat) (x2 : Int32) (x4 : Int32) (x5 : Int32) : Option (Int32 × GS) :=
  ckT σ 1 x0 ((x_next4 σ x0).bind fun r2 => ckT r2.2 1 x0 (if (gi r2.2 x0 8) = 0 then (x_next4 r2.2 x0).bind fun r6 => x_readPool_359 fu k65 r6.2 x0 x1 x2 x4 x5 r2.1 r6.1 else x_readPool_359 fu k65 r2.2 x0 x1 x2 x4 x5 r2.1 (0 : Int64)))
noncomputable def x_readPool_481 (fu : Nat) (k65 : GS → Nat → Nat → Int32 → Int32 → Option (Int32 × GS)) (σ : GS) (x0 : Nat) (x1 : Nat) (x2 : Int32) (x4 : Int32) (x5 : Int32) : Option (Int32 × GS) :=
  ckT σ 2 x1 (ckT σ 1 x0 ((x_next2 σ x0).bind fun r3 => ckK r3.2 100 (gr σ x1 9) fun a5 => ckIn x4 (gn r3.2 a5) (nx (gpi r3.2 a5 x4.toNatClampNeg r3.1) fun s9 => x_readPool_492 fu k65 s9 x0 x1 x2 x4 x5)))
noncomputable def x_readPool_467 (fu : Nat) (k65 : GS → Nat → Nat → Int32 → Int32 → Option (Int32 × GS)) (σ : GS) (x0 : Nat) (x1 : Nat) (x2 : Int32) (x4 : Int32) (x5 : Int32) : Option (Int32 × GS) :=
  if x5 = (17 : Int32) then x_readPool_481 fu k65 σ x0 x1 x2 x4 x5 else if x5 = (18 : Int32) then x_readPool_481 fu k65 σ x0 x1 x2 x4 x5 else x_readPool_492 fu k65 σ x0 x1 x2 x4 x5
noncomputable def x_readPool_259 (fu : Nat) (k65 : GS → Nat → Nat → Int32 → Int32 → Option (Int32 × GS)) (σ : GS) (x0 : Nat) (x1 : Nat) (x2 : Int32) (x4 : Int32) (x5 : Int32) : Option (Int32 × GS) :=
  ckT σ 1 x0 (nx (gpi σ x0 6 ((gi σ x0 6) + (1 : Int32))) fun s2 => ckT s2 2 x1 (ckK s2 101 (gr s2 x1 7) fun a4 => ckW s2 a4 (ckIn x4 (gn s2 a4) (nx (gpi s2 a4 x4.toNatClampNeg x5.toInt8.toInt32.toInt8.toInt32) fun s9 => if x5 = (1 : Int32) then (x_readText fu s9 x0 x1 x4).bind fun r47 => if r47.1 = 0 then some ((0 : Int32), r47.2) else x_readPool_492 fu k65 r47.2 x0 x1 x2 x4 x5 else if x5 = (3 : Int32) then x_readPool_309 fu k65 s9 x0 x1 x2 x4 x5 else if x5 = (4 : Int32) then x_readPool_309 fu k65 s9 x0 x1 x2 x4 x5 else if x5 = (5 : Int32) then x_readPool_338 fu k65 s9 x0 x1 x2 x4 x5 else if x5 = (6 : Int32) then x_readPool_338 fu k65 s9 x0 x1 x2 x4 x5 else if x5 = (15 : Int32) then (x_has s9 x0 (1 : Int64)).bind fun r27 => if r27.1 = 0 then some ((0 : Int32), r27.2) else ckT r27.2 2 x1 (ckT r27.2 1 x0 ((x_u1 r27.2 x0 (gi r27.2 x0 6)).bind fun r32 => ckK r27.2 100 (gr r27.2 x1 8) fun a34 => ckIn x4 (gn r27.2 a34) (nx (gpi r27.2 a34 x4.toNatClampNeg r32) fun s38 => nx (gpi s38 x0 6 ((gi s38 x0 6) + (1 : Int32))) fun s39 => (x_next2 s39 x0).bind fun r40 => ckK r40.2 100 (gr s39 x1 9) fun a42 => ckIn x4 (gn r40.2 a42) (nx (gpi r40.2 a42 x4.toNatClampNeg r40.1) fun s46 => x_readPool_492 fu k65 s46 x0 x1 x2 x4 x5)))) else (x_next2 s9 x0).bind fun r16 => ckK r16.2 100 (gr s9 x1 8) fun a18 => ckIn x4 (gn r16.2 a18) (nx (gpi r16.2 a18 x4.toNatClampNeg r16.1) fun s22 => ckT s22 1 x0 (if (gi s22 x0 8) = 0 then if x5 < (9 : Int32) then x_readPool_467 fu k65 s22 x0 x1 x2 x4 x5 else if x5 ≤ (12 : Int32) then x_readPool_481 fu k65 s22 x0 x1 x2 x4 x5 else x_readPool_467 fu k65 s22 x0 x1 x2 x4 x5 else x_readPool_492 fu k65 s22 x0 x1 x2 x4 x5))))))
noncomputable def x_readPool_240 (fu : Nat) (k65 : GS → Nat → Nat → Int32 → Int32 → Option (Int32 × GS)) (σ : GS) (x0 : Nat) (x1 : Nat) (x2 : Int32) (x4 : Int32) (x5 : Int32) : Option (Int32 × GS) :=
  if (x4 + (1 : Int32)) < x2 then x_readPool_259 fu k65 σ x0 x1 x2 x4 x5 else ckT σ 1 x0 ((x_wrong σ x0 (7 : Int32) (gi σ x0 6)).bind fun r3 => ckN .boolean r3.1 (some (r3.1, r3.2)))
noncomputable def x_readPool_201 (fu : Nat) (k65 : GS → Nat → Nat → Int32 → Int32 → Option (Int32 × GS)) (σ : GS) (x0 : Nat) (x1 : Nat) (x2 : Int32) (x4 : Int32) (x5 : Int32) (x6 : Int32) (t0 : Int32) : Option (Int32 × GS) :=
  if t0 = 0 then x_readPool_217 fu σ x0 else ckT σ 2 x1 (if x6 ≤ (gi σ x1 1) then if x5 = (5 : Int32) then x_readPool_240 fu k65 σ x0 x1 x2 x4 x5 else if x5 = (6 : Int32) then x_readPool_240 fu k65 σ x0 x1 x2 x4 x5 else x_readPool_259 fu k65 σ x0 x1 x2 x4 x5 else x_readPool_217 fu σ x0)
noncomputable def x_readPool_196 (fu : Nat) (k65 : GS → Nat → Nat → Int32 → Int32 → Option (Int32 × GS)) (σ : GS) (x0 : Nat) (x1 : Nat) (x2 : Int32) (x4 : Int32) (x5 : Int32) (x6 : Int32) : Option (Int32 × GS) :=
  x_readPool_201 fu k65 σ x0 x1 x2 x4 x5 x6 (1 : Int32)
noncomputable def x_readPool_200 (fu : Nat) (k65 : GS → Nat → Nat → Int32 → Int32 → Option (Int32 × GS)) (σ : GS) (x0 : Nat) (x1 : Nat) (x2 : Int32) (x4 : Int32) (x5 : Int32) (x6 : Int32) : Option (Int32 × GS) :=
  x_readPool_201 fu k65 σ x0 x1 x2 x4 x5 x6 (0 : Int32)
noncomputable def x_readPool_182 (fu : Nat) (k65 : GS → Nat → Nat → Int32 → Int32 → Option (Int32 × GS)) (σ : GS) (x0 : Nat) (x1 : Nat) (x2 : Int32) (x4 : Int32) (x5 : Int32) (x6 : Int32) : Option (Int32 × GS) :=
  if x5 < (15 : Int32) then x_readPool_200 fu k65 σ x0 x1 x2 x4 x5 x6 else if (20 : Int32) < x5 then x_readPool_200 fu k65 σ x0 x1 x2 x4 x5 x6 else x_readPool_196 fu k65 σ x0 x1 x2 x4 x5 x6
noncomputable def x_readPool_161 (fu : Nat) (k65 : GS → Nat → Nat → Int32 → Int32 → Option (Int32 × GS)) (σ : GS) (x0 : Nat) (x1 : Nat) (x2 : Int32) (x4 : Int32) (x5 : Int32) (t0 : Int32) : Option (Int32 × GS) :=
  if x5 = (1 : Int32) then x_readPool_196 fu k65 σ x0 x1 x2 x4 x5 t0 else if x5 < (3 : Int32) then x_readPool_182 fu k65 σ x0 x1 x2 x4 x5 t0 else if x5 ≤ (12 : Int32) then x_readPool_196 fu k65 σ x0 x1 x2 x4 x5 t0 else x_readPool_182 fu k65 σ x0 x1 x2 x4 x5 t0
noncomputable def x_readPool_123 (fu : Nat) (k65 : GS → Nat → Nat → Int32 → Int32 → Option (Int32 × GS)) (σ : GS) (x0 : Nat) (x1 : Nat) (x2 : Int32) (x4 : Int32) (x5 : Int32) : Option (Int32 × GS) :=
  x_readPool_161 fu k65 σ x0 x1 x2 x4 x5 (51 : Int32)
noncomputable def x_readPool_154 (fu : Nat) (k65 : GS → Nat → Nat → Int32 → Int32 → Option (Int32 × GS)) (σ : GS) (x0 : Nat) (x1 : Nat) (x2 : Int32) (x4 : Int32) (x5 : Int32) : Option (Int32 × GS) :=
  x_readPool_161 fu k65 σ x0 x1 x2 x4 x5 (53 : Int32)
noncomputable def x_readPool_65 (fu : Nat) (k65 : GS → Nat → Nat → Int32 → Int32 → Option (Int32 × GS)) (σ : GS) (x0 : Nat) (x1 : Nat) (x2 : Int32) (x4 : Int32) : Option (Int32 × GS) :=
  if x2 ≤ x4 then some ((1 : Int32), σ) else ckT σ 1 x0 (ckK σ 100 (gr σ x0 7) fun a3 => ckIn x4 (gn σ a3) (nx (gpi σ a3 x4.toNatClampNeg (gi σ x0 6)) fun s7 => (x_has s7 x0 (1 : Int64)).bind fun r8 => if r8.1 = 0 then some ((0 : Int32), r8.2) else ckT r8.2 1 x0 ((x_u1 r8.2 x0 (gi r8.2 x0 6)).bind fun r12 => if r12 = (15 : Int32) then x_readPool_123 fu k65 r8.2 x0 x1 x2 x4 r12 else if r12 = (16 : Int32) then x_readPool_123 fu k65 r8.2 x0 x1 x2 x4 r12 else if r12 = (18 : Int32) then x_readPool_123 fu k65 r8.2 x0 x1 x2 x4 r12 else if r12 = (17 : Int32) then x_readPool_161 fu k65 r8.2 x0 x1 x2 x4 r12 (55 : Int32) else if r12 = (19 : Int32) then x_readPool_154 fu k65 r8.2 x0 x1 x2 x4 r12 else if r12 = (20 : Int32) then x_readPool_154 fu k65 r8.2 x0 x1 x2 x4 r12 else x_readPool_161 fu k65 r8.2 x0 x1 x2 x4 r12 (45 : Int32))))
noncomputable def x_readPool_65L (fu : Nat) (n : Nat) : GS → Nat → Nat → Int32 → Int32 → Option (Int32 × GS) := lpF (F := GS → Nat → Nat → Int32 → Int32 → Option (Int32 × GS)) (fun _ _ _ _ _ => none) (fun k => x_readPool_65 fu k) n
noncomputable def x_readPool_0 (fu : Nat) (σ : GS) (x0 : Nat) (x1 : Nat) : Option (Int32 × GS) :=
  ckT σ 2 x1 (nx (gi σ x1 6) fun y2 => ckT σ 1 x0 (ckK σ 101 (gr σ x0 2) fun a4 => ckD (3 : Int32) (nx ((if (((nI (gn σ a4)) / (3 : Int32)) + (2 : Int32)) < y2 then (((nI (gn σ a4)) / (3 : Int32)) + (2 : Int32)) else y2)) fun y8 => ckL y8 (ckC σ y8.toNatClampNeg (nx (gx σ) fun a11 => nx (gnew σ 101 y8.toNatClampNeg y8.toNatClampNeg) fun s12 => ckT s12 2 x1 (nx (gpr s12 x1 7 (some a11)) fun s15 => ckL y8 (ckC s15 y8.toNatClampNeg (nx (gx s15) fun a18 => nx (gnew s15 100 y8.toNatClampNeg y8.toNatClampNeg) fun s19 => ckT s19 2 x1 (nx (gpr s19 x1 8 (some a18)) fun s22 => ckL y8 (ckC s22 y8.toNatClampNeg (nx (gx s22) fun a25 => nx (gnew s22 100 y8.toNatClampNeg y8.toNatClampNeg) fun s26 => ckT s26 2 x1 (nx (gpr s26 x1 9 (some a25)) fun s29 => ckL y8 (ckC s29 y8.toNatClampNeg (nx (gx s29) fun a32 => nx (gnew s29 104 y8.toNatClampNeg y8.toNatClampNeg) fun s33 => ckT s33 2 x1 (nx (gpr s33 x1 10 (some a32)) fun s36 => ckL y8 (ckC s36 y8.toNatClampNeg (nx (gx s36) fun a39 => nx (gnew s36 105 y8.toNatClampNeg y8.toNatClampNeg) fun s40 => ckT s40 2 x1 (nx (gpr s40 x1 11 (some a39)) fun s43 => ckL y8 (ckC s43 y8.toNatClampNeg (nx (gx s43) fun a46 => nx (gnew s43 100 y8.toNatClampNeg y8.toNatClampNeg) fun s47 => ckT s47 1 x0 (nx (gpr s47 x0 7 (some a46)) fun s50 => x_readPool_65L fu fu s50 x0 x1 y2 (1 : Int32))))))))))))))))))))))
noncomputable def x_readPool (fu : Nat) (σ : GS) (x0 : Nat) (x1 : Nat) : Option (Int32 × GS) := x_readPool_0 fu σ x0 x1
noncomputable def x_passAttributes_66 (fu : Nat) (k7 : GS → Nat → Int32 → Int32 → Option GS) (σ : GS) (x0 : Nat) (x1 : Int32) (x2 : Int32) : Option GS :=
  nx (x2 + (1 : Int32)) fun y1 => k7 σ x0 x1 y1
noncomputable def x_passAttributes_39 (fu : Nat) (k7 : GS → Nat → Int32 → Int32 → Option GS) (σ : GS) (x0 : Nat) (x1 : Int32) (x2 : Int32) (t0 : Int64) : Option GS :=
  ckT σ 1 x0 (if (gi σ x0 8) = 0 then (x_has σ x0 t0).bind fun r3 => if r3.1 = 0 then x_passAttributes_66 fu k7 r3.2 x0 x1 x2 else ckT r3.2 1 x0 (nx (gpi r3.2 x0 6 ((gi r3.2 x0 6) + t0.toInt32)) fun s7 => x_passAttributes_66 fu k7 s7 x0 x1 x2) else x_passAttributes_66 fu k7 σ x0 x1 x2)
noncomputable def x_passAttributes_7 (fu : Nat) (k7 : GS → Nat → Int32 → Int32 → Option GS) (σ : GS) (x0 : Nat) (x1 : Int32) (x2 : Int32) : Option GS :=
  if x1 ≤ x2 then some σ else ckT σ 1 x0 (if (gi σ x0 8) = 0 then (x_next2 σ x0).bind fun r4 => ckT r4.2 1 x0 (if (gi r4.2 x0 8) = 0 then (x_next4 r4.2 x0).bind fun r8 => x_passAttributes_39 fu k7 r8.2 x0 x1 x2 r8.1 else x_passAttributes_39 fu k7 r4.2 x0 x1 x2 (0 : Int64)) else some σ)
noncomputable def x_passAttributes_7L (fu : Nat) (n : Nat) : GS → Nat → Int32 → Int32 → Option GS := lpF (F := GS → Nat → Int32 → Int32 → Option GS) (fun _ _ _ _ => none) (fun k => x_passAttributes_7 fu k) n
noncomputable def x_passAttributes_0 (fu : Nat) (σ : GS) (x0 : Nat) : Option GS :=
  ckT σ 1 x0 ((x_next2 σ x0).bind fun r2 => x_passAttributes_7L fu fu r2.2 x0 r2.1 (0 : Int32))
noncomputable def x_passAttributes (fu : Nat) (σ : GS) (x0 : Nat) : Option GS := x_passAttributes_0 fu σ x0
noncomputable def x_structure_354 (fu : Nat) (k300 : GS → Nat → Nat → Int32 → Int32 → Int32 → Option (Option Nat × GS)) (σ : GS) (x0 : Nat) (x1 : Nat) (x5 : Int32) (x6 : Int32) (x7 : Int32) : Option (Option Nat × GS) :=
  nx (x7 + (1 : Int32)) fun y1 => k300 σ x0 x1 x5 x6 y1
noncomputable def x_structure_343 (fu : Nat) (k300 : GS → Nat → Nat → Int32 → Int32 → Int32 → Option (Option Nat × GS)) (σ : GS) (x0 : Nat) (x1 : Nat) (x5 : Int32) (x6 : Int32) (x7 : Int32) : Option (Option Nat × GS) :=
  ckT σ 1 x0 (if (gi σ x0 8) = 0 then (x_passAttributes fu σ x0).bind fun r3 => x_structure_354 fu k300 r3 x0 x1 x5 x6 x7 else x_structure_354 fu k300 σ x0 x1 x5 x6 x7)
noncomputable def x_structure_331 (fu : Nat) (k300 : GS → Nat → Nat → Int32 → Int32 → Int32 → Option (Option Nat × GS)) (σ : GS) (x0 : Nat) (x1 : Nat) (x5 : Int32) (x6 : Int32) (x7 : Int32) : Option (Option Nat × GS) :=
  ckT σ 1 x0 (if (gi σ x0 8) = 0 then (x_next2 σ x0).bind fun r3 => x_structure_343 fu k300 r3.2 x0 x1 x5 x6 x7 else x_structure_343 fu k300 σ x0 x1 x5 x6 x7)
noncomputable def x_structure_360 (fu : Nat) (k278 : GS → Nat → Nat → Int32 → Option (Option Nat × GS)) (σ : GS) (x0 : Nat) (x1 : Nat) (x5 : Int32) : Option (Option Nat × GS) :=
  nx (x5 + (1 : Int32)) fun y1 => k278 σ x0 x1 y1
noncomputable def x_structure_300 (fu : Nat) (k278 : GS → Nat → Nat → Int32 → Option (Option Nat × GS)) (k300 : GS → Nat → Nat → Int32 → Int32 → Int32 → Option (Option Nat × GS)) (σ : GS) (x0 : Nat) (x1 : Nat) (x5 : Int32) (x6 : Int32) (x7 : Int32) : Option (Option Nat × GS) :=
  if x6 ≤ x7 then x_structure_360 fu k278 σ x0 x1 x5 else ckT σ 1 x0 (if (gi σ x0 8) = 0 then (x_next2 σ x0).bind fun r4 => ckT r4.2 1 x0 (if (gi r4.2 x0 8) = 0 then (x_next2 r4.2 x0).bind fun r8 => x_structure_331 fu k300 r8.2 x0 x1 x5 x6 x7 else x_structure_331 fu k300 r4.2 x0 x1 x5 x6 x7) else x_structure_360 fu k278 σ x0 x1 x5)
noncomputable def x_structure_300L (fu : Nat) (k278 : GS → Nat → Nat → Int32 → Option (Option Nat × GS)) (n : Nat) : GS → Nat → Nat → Int32 → Int32 → Int32 → Option (Option Nat × GS) := lpF (F := GS → Nat → Nat → Int32 → Int32 → Int32 → Option (Option Nat × GS)) (fun _ _ _ _ _ _ => none) (fun k => x_structure_300 fu k278 k) n
noncomputable def x_structure_407 (fu : Nat) (σ : GS) (x0 : Nat) (x1 : Nat) : Option (Option Nat × GS) :=
  ckT σ 1 x0 (if (gi σ x0 8) = 0 then some (some x1, σ) else some (none, σ))
noncomputable def x_structure_377 (fu : Nat) (σ : GS) (x0 : Nat) (x1 : Nat) : Option (Option Nat × GS) :=
  ckT σ 1 x0 (if (gi σ x0 8) = 0 then ckK σ 101 (gr σ x0 2) fun a3 => if (nI (gn σ a3)) ≤ (gi σ x0 6) then x_structure_407 fu σ x0 x1 else (x_wrong σ x0 (8 : Int32) (gi σ x0 6)).bind fun r7 => x_structure_407 fu r7.2 x0 x1 else x_structure_407 fu σ x0 x1)
noncomputable def x_structure_366 (fu : Nat) (σ : GS) (x0 : Nat) (x1 : Nat) : Option (Option Nat × GS) :=
  ckT σ 1 x0 (if (gi σ x0 8) = 0 then (x_passAttributes fu σ x0).bind fun r3 => x_structure_377 fu r3 x0 x1 else x_structure_377 fu σ x0 x1)
noncomputable def x_structure_278 (fu : Nat) (k278 : GS → Nat → Nat → Int32 → Option (Option Nat × GS)) (σ : GS) (x0 : Nat) (x1 : Nat) (x5 : Int32) : Option (Option Nat × GS) :=
  if (2 : Int32) ≤ x5 then x_structure_366 fu σ x0 x1 else ckT σ 1 x0 (if (gi σ x0 8) = 0 then (x_next2 σ x0).bind fun r4 => x_structure_300L fu k278 fu r4.2 x0 x1 x5 r4.1 (0 : Int32) else x_structure_366 fu σ x0 x1)
noncomputable def x_structure_278L (fu : Nat) (n : Nat) : GS → Nat → Nat → Int32 → Option (Option Nat × GS) := lpF (F := GS → Nat → Nat → Int32 → Option (Option Nat × GS)) (fun _ _ _ _ => none) (fun k => x_structure_278 fu k) n
noncomputable def x_structure_267 (fu : Nat) (σ : GS) (x0 : Nat) (x1 : Nat) : Option (Option Nat × GS) :=
  ckT σ 1 x0 (nx (gpi σ x0 10 (gi σ x0 6)) fun s2 => x_structure_278L fu fu s2 x0 x1 (0 : Int32))
noncomputable def x_structure_242 (fu : Nat) (k242 : GS → Nat → Nat → Int32 → Int32 → Option (Option Nat × GS)) (σ : GS) (x0 : Nat) (x1 : Nat) (x4 : Int32) (x5 : Int32) : Option (Option Nat × GS) :=
  if x4 ≤ x5 then x_structure_267 fu σ x0 x1 else ckT σ 1 x0 (if (gi σ x0 8) = 0 then (x_next2 σ x0).bind fun r4 => nx (x5 + (1 : Int32)) fun y6 => k242 r4.2 x0 x1 x4 y6 else x_structure_267 fu σ x0 x1)
noncomputable def x_structure_242L (fu : Nat) (n : Nat) : GS → Nat → Nat → Int32 → Int32 → Option (Option Nat × GS) := lpF (F := GS → Nat → Nat → Int32 → Int32 → Option (Option Nat × GS)) (fun _ _ _ _ _ => none) (fun k => x_structure_242 fu k) n
noncomputable def x_structure_149 (fu : Nat) (σ : GS) (x0 : Nat) (x1 : Nat) : Option (Option Nat × GS) :=
  ckT σ 1 x0 ((x_readPool fu σ x0 x1).bind fun r2 => if r2.1 = 0 then some (none, r2.2) else ckT r2.2 1 x0 (nx (gpi r2.2 x0 9 (gi r2.2 x0 6)) fun s6 => (x_has s6 x0 (2 : Int64)).bind fun r7 => if r7.1 = 0 then some (none, r7.2) else ckT r7.2 1 x0 (nx (gpi r7.2 x0 6 ((gi r7.2 x0 6) + (2 : Int32))) fun s11 => (x_has s11 x0 (2 : Int64)).bind fun r12 => if r12.1 = 0 then some (none, r12.2) else ckT r12.2 1 x0 (nx (gpi r12.2 x0 6 ((gi r12.2 x0 6) + (2 : Int32))) fun s16 => (x_has s16 x0 (2 : Int64)).bind fun r17 => if r17.1 = 0 then some (none, r17.2) else ckT r17.2 1 x0 (nx (gpi r17.2 x0 6 ((gi r17.2 x0 6) + (2 : Int32))) fun s21 => (x_next2 s21 x0).bind fun r22 => x_structure_242L fu fu r22.2 x0 x1 r22.1 (0 : Int32))))))
noncomputable def x_structure_117 (fu : Nat) (σ : GS) (x0 : Nat) (x1 : Nat) : Option (Option Nat × GS) :=
  ckT σ 1 x0 ((x_next2 σ x0).bind fun r2 => ckT r2.2 2 x1 (nx (gpi r2.2 x1 6 r2.1) fun s5 => ckT s5 1 x0 (if (gi s5 x0 8) = 0 then if (gi s5 x1 6) = 0 then (x_wrong s5 x0 (4 : Int32) (8 : Int32)).bind fun r9 => if r9.1 = 0 then some (none, r9.2) else x_structure_149 fu r9.2 x0 x1 else x_structure_149 fu s5 x0 x1 else some (none, s5))))
noncomputable def x_structure_106 (fu : Nat) (σ : GS) (x0 : Nat) (x1 : Nat) : Option (Option Nat × GS) :=
  ckT σ 1 x0 ((x_wrong σ x0 (3 : Int32) (4 : Int32)).bind fun r2 => if r2.1 = 0 then some (none, r2.2) else x_structure_117 fu r2.2 x0 x1)
noncomputable def x_structure_49 (fu : Nat) (σ : GS) (x0 : Nat) (x1 : Nat) : Option (Option Nat × GS) :=
  ckT σ 1 x0 ((x_next2 σ x0).bind fun r2 => ckT r2.2 2 x1 (nx (gpi r2.2 x1 2 r2.1) fun s5 => ckT s5 1 x0 ((x_next2 s5 x0).bind fun r7 => ckT r7.2 2 x1 (nx (gpi r7.2 x1 1 r7.1) fun s10 => ckT s10 1 x0 (if (gi s10 x0 8) = 0 then if (gi s10 x1 1) < (45 : Int32) then x_structure_106 fu s10 x0 x1 else if (61 : Int32) < (gi s10 x1 1) then x_structure_106 fu s10 x0 x1 else if (gi s10 x1 1) < (56 : Int32) then x_structure_117 fu s10 x0 x1 else if (gi s10 x1 2) = 0 then x_structure_117 fu s10 x0 x1 else x_structure_106 fu s10 x0 x1 else some (none, s10))))))
noncomputable def x_structure_0 (fu : Nat) (σ : GS) (x0 : Nat) : Option (Option Nat × GS) :=
  ckT σ 1 x0 (nx (gpi σ x0 6 (0 : Int32)) fun s2 => nx (gpi s2 x0 8 (0 : Int32)) fun s3 => ckC s3 22 (nx (gx s3) fun a5 => nx (gnew s3 2 0 22) fun s6 => (x_X3_init s6 a5).bind fun r8 => ckT r8 1 x0 ((x_next4 r8 x0).bind fun r11 => ckT r11.2 1 x0 (if (gi r11.2 x0 8) = 0 then if (lg_cmp r11.1 (3405691582 : Int64)) = 0 then x_structure_49 fu r11.2 x0 a5 else (x_wrong r11.2 x0 (2 : Int32) (0 : Int32)).bind fun r16 => if r16.1 = 0 then some (none, r16.2) else x_structure_49 fu r16.2 x0 a5 else some (none, r11.2)))))
noncomputable def x_structure (fu : Nat) (σ : GS) (x0 : Nat) : Option (Option Nat × GS) := x_structure_0 fu σ x0
noncomputable def x_isTag_26 (σ : GS) : Option Int32 :=
  some (0 : Int32)
noncomputable def x_isTag_0 (σ : GS) (x0 : Nat) (x1 : Int32) (x2 : Int32) : Option Int32 :=
  if x1 ≤ 0 then x_isTag_26 σ else ckT σ 2 x0 (if (gi σ x0 6) ≤ x1 then x_isTag_26 σ else ckK σ 101 (gr σ x0 7) fun a4 => ckIn x1 (gn σ a4) (if (gi σ a4 x1.toNatClampNeg) = x2 then some (1 : Int32) else x_isTag_26 σ))
noncomputable def x_isTag (σ : GS) (x0 : Nat) (x1 : Int32) (x2 : Int32) : Option Int32 := x_isTag_0 σ x0 x1 x2
noncomputable def x_textAt_0 (σ : GS) (x0 : Nat) (x1 : Int32) : Option (Option Nat) :=
  (x_isTag σ x0 x1 (1 : Int32)).bind fun r1 => if r1 = 0 then some none else ckT σ 2 x0 (ckK σ 105 (gr σ x0 11) fun a5 => ckIn x1 (gn σ a5) (some (gr σ a5 x1.toNatClampNeg)))
noncomputable def x_textAt (σ : GS) (x0 : Nat) (x1 : Int32) : Option (Option Nat) := x_textAt_0 σ x0 x1
noncomputable def x_J2_coder_0 (σ : GS) (x0 : Nat) : Option Int32 :=
  if (1 : Int32) = 0 then some (1 : Int32) else ckT σ 6 x0 (ckN .byte (gi σ x0 1) (some (gi σ x0 1)))
noncomputable def x_J2_coder (σ : GS) (x0 : Nat) : Option Int32 := x_J2_coder_0 σ x0
noncomputable def x_J2_length_0 (σ : GS) (x0 : Nat) : Option Int32 :=
  ckT σ 6 x0 (ckK σ 101 (gr σ x0 0) fun a2 => (x_J2_coder σ x0).bind fun r5 => some ((nI (gn σ a2)) >>> (r5 &&& 31)))
noncomputable def x_J2_length (σ : GS) (x0 : Nat) : Option Int32 := x_J2_length_0 σ x0
noncomputable def x_J2_isLatin1_17 (σ : GS) : Option Int32 :=
  some (0 : Int32)
noncomputable def x_J2_isLatin1_0 (σ : GS) (x0 : Nat) : Option Int32 :=
  if (1 : Int32) = 0 then x_J2_isLatin1_17 σ else ckT σ 6 x0 (if (gi σ x0 1) = 0 then some (1 : Int32) else x_J2_isLatin1_17 σ)
noncomputable def x_J2_isLatin1 (σ : GS) (x0 : Nat) : Option Int32 := x_J2_isLatin1_0 σ x0
noncomputable def x_J4_charAt_0 (σ : GS) (x0 : Nat) (x1 : Int32) : Option Int32 :=
  ckT σ 101 x0 ((x_J2_checkIndex σ x1 (nI (gn σ x0))).bind fun r2 => ckIn x1 (gn σ x0) (ckN .char ((((gi σ x0 x1.toNatClampNeg) &&& (255 : Int32)).toUInt32 % 65536).toInt32) (some ((((gi σ x0 x1.toNatClampNeg) &&& (255 : Int32)).toUInt32 % 65536).toInt32))))
noncomputable def x_J4_charAt (σ : GS) (x0 : Nat) (x1 : Int32) : Option Int32 := x_J4_charAt_0 σ x0 x1
noncomputable def x_J3_charAt_0 (σ : GS) (x0 : Nat) (x1 : Int32) : Option Int32 :=
  (x_J3_checkIndex σ x1 x0).bind fun r1 => (x_J3_getChar σ x0 x1).bind fun r3 => ckN .char r3 (some r3)
noncomputable def x_J3_charAt (σ : GS) (x0 : Nat) (x1 : Int32) : Option Int32 := x_J3_charAt_0 σ x0 x1
noncomputable def x_J2_charAt_0 (σ : GS) (x0 : Nat) (x1 : Int32) : Option Int32 :=
  ckT σ 6 x0 ((x_J2_isLatin1 σ x0).bind fun r2 => if r2 = 0 then ckR (gr σ x0 0) fun a5 => (x_J3_charAt σ a5 x1).bind fun r8 => ckN .char r8 (some r8) else ckR (gr σ x0 0) fun a11 => (x_J4_charAt σ a11 x1).bind fun r14 => ckN .char r14 (some r14))
noncomputable def x_J2_charAt (σ : GS) (x0 : Nat) (x1 : Int32) : Option Int32 := x_J2_charAt_0 σ x0 x1
noncomputable def x_J4_canEncode_2_15 (σ : GS) : Option Int32 :=
  some (0 : Int32)
noncomputable def x_J4_canEncode_2_0 (σ : GS) (x0 : Int32) : Option Int32 :=
  if x0 < 0 then x_J4_canEncode_2_15 σ else if (255 : Int32) < x0 then x_J4_canEncode_2_15 σ else some (1 : Int32)
noncomputable def x_J4_canEncode_2 (σ : GS) (x0 : Int32) : Option Int32 := x_J4_canEncode_2_0 σ x0
noncomputable def x_J4_indexOfChar_7 (fu : Nat) (σ : GS) (k7 : Nat → Int32 → Int32 → Int32 → Option Int32) (x0 : Nat) (x3 : Int32) (x4 : Int32) (x5 : Int32) : Option Int32 :=
  if x3 ≤ x5 then some (-1 : Int32) else ckT σ 101 x0 (ckIn x5 (gn σ x0) (if (gi σ x0 x5.toNatClampNeg) = x4 then some x5 else nx (x5 + (1 : Int32)) fun y5 => k7 x0 x3 x4 y5))
noncomputable def x_J4_indexOfChar_7L (fu : Nat) (σ : GS) (n : Nat) : Nat → Int32 → Int32 → Int32 → Option Int32 := lpF (F := Nat → Int32 → Int32 → Int32 → Option Int32) (fun _ _ _ _ => none) (fun k => x_J4_indexOfChar_7 fu σ k) n
noncomputable def x_J4_indexOfChar_0 (fu : Nat) (σ : GS) (x0 : Nat) (x1 : Int32) (x2 : Int32) (x3 : Int32) : Option Int32 :=
  x_J4_indexOfChar_7L fu σ fu x0 x3 x1.toInt8.toInt32 x2
noncomputable def x_J4_indexOfChar (fu : Nat) (σ : GS) (x0 : Nat) (x1 : Int32) (x2 : Int32) (x3 : Int32) : Option Int32 := x_J4_indexOfChar_0 fu σ x0 x1 x2 x3
noncomputable def x_J4_indexOf_0 (fu : Nat) (σ : GS) (x0 : Nat) (x1 : Int32) (x2 : Int32) (x3 : Int32) : Option Int32 :=
  (x_J4_canEncode_2 σ x1).bind fun r1 => if r1 = 0 then some (-1 : Int32) else nx ((if x2 < (0 : Int32) then (0 : Int32) else x2)) fun y4 => ckT σ 101 x0 (nx ((if (nI (gn σ x0)) < x3 then (nI (gn σ x0)) else x3)) fun y6 => if y4 < y6 then (x_J4_indexOfChar fu σ x0 x1 y4 y6).bind fun r8 => some r8 else some (-1 : Int32))
noncomputable def x_J4_indexOf (fu : Nat) (σ : GS) (x0 : Nat) (x1 : Int32) (x2 : Int32) (x3 : Int32) : Option Int32 := x_J4_indexOf_0 fu σ x0 x1 x2 x3
noncomputable def x_J5_checkFromToIndex_0 (σ : GS) (x0 : Int32) (x1 : Int32) (x2 : Int32) : Option Int32 :=
  if x0 < 0 then (none : Option Int32) else if x1 < x0 then (none : Option Int32) else if x1 ≤ x2 then some x0 else (none : Option Int32)
noncomputable def x_J5_checkFromToIndex (σ : GS) (x0 : Int32) (x1 : Int32) (x2 : Int32) : Option Int32 := x_J5_checkFromToIndex_0 σ x0 x1 x2
noncomputable def x_J2_checkBoundsBeginEnd_0 (σ : GS) (x0 : Int32) (x1 : Int32) (x2 : Int32) : Option Unit :=
  (x_J5_checkFromToIndex σ x0 x1 x2).bind fun r2 => some ()
noncomputable def x_J2_checkBoundsBeginEnd (σ : GS) (x0 : Int32) (x1 : Int32) (x2 : Int32) : Option Unit := x_J2_checkBoundsBeginEnd_0 σ x0 x1 x2
noncomputable def x_J3_checkBoundsBeginEnd_0 (σ : GS) (x0 : Int32) (x1 : Int32) (x2 : Nat) : Option Unit :=
  (x_J3_length σ x2).bind fun r1 => (x_J2_checkBoundsBeginEnd σ x0 x1 r1).bind fun r3 => some ()
noncomputable def x_J3_checkBoundsBeginEnd (σ : GS) (x0 : Int32) (x1 : Int32) (x2 : Nat) : Option Unit := x_J3_checkBoundsBeginEnd_0 σ x0 x1 x2
noncomputable def x_J3_indexOfCharUnsafe_3 (fu : Nat) (σ : GS) (k3 : Nat → Int32 → Int32 → Int32 → Option Int32) (x0 : Nat) (x1 : Int32) (x3 : Int32) (x4 : Int32) : Option Int32 :=
  if x3 ≤ x4 then some (-1 : Int32) else (x_J3_getChar σ x0 x4).bind fun r2 => if r2 = x1 then some x4 else nx (x4 + (1 : Int32)) fun y5 => k3 x0 x1 x3 y5
noncomputable def x_J3_indexOfCharUnsafe_3L (fu : Nat) (σ : GS) (n : Nat) : Nat → Int32 → Int32 → Int32 → Option Int32 := lpF (F := Nat → Int32 → Int32 → Int32 → Option Int32) (fun _ _ _ _ => none) (fun k => x_J3_indexOfCharUnsafe_3 fu σ k) n
noncomputable def x_J3_indexOfCharUnsafe_0 (fu : Nat) (σ : GS) (x0 : Nat) (x1 : Int32) (x2 : Int32) (x3 : Int32) : Option Int32 :=
  x_J3_indexOfCharUnsafe_3L fu σ fu x0 x1 x3 x2
noncomputable def x_J3_indexOfCharUnsafe (fu : Nat) (σ : GS) (x0 : Nat) (x1 : Int32) (x2 : Int32) (x3 : Int32) : Option Int32 := x_J3_indexOfCharUnsafe_0 fu σ x0 x1 x2 x3
noncomputable def x_J3_indexOfChar_0 (fu : Nat) (σ : GS) (x0 : Nat) (x1 : Int32) (x2 : Int32) (x3 : Int32) : Option Int32 :=
  (x_J3_checkBoundsBeginEnd σ x2 x3 x0).bind fun r1 => (x_J3_indexOfCharUnsafe fu σ x0 x1 x2 x3).bind fun r3 => some r3
noncomputable def x_J3_indexOfChar (fu : Nat) (σ : GS) (x0 : Nat) (x1 : Int32) (x2 : Int32) (x3 : Int32) : Option Int32 := x_J3_indexOfChar_0 fu σ x0 x1 x2 x3
noncomputable def x_J3_indexOf_0 (fu : Nat) (σ : GS) (x0 : Nat) (x1 : Int32) (x2 : Int32) (x3 : Int32) : Option Int32 :=
  nx ((if x2 < (0 : Int32) then (0 : Int32) else x2)) fun y1 => ckT σ 101 x0 (nx ((if ((nI (gn σ x0)) >>> ((1 : Int32) &&& 31)) < x3 then ((nI (gn σ x0)) >>> ((1 : Int32) &&& 31)) else x3)) fun y3 => if y1 < y3 then if (65536 : Int32) ≤ x1 then (none : Option Int32) else (x_J3_indexOfChar fu σ x0 x1 y1 y3).bind fun r6 => some r6 else some (-1 : Int32))
noncomputable def x_J3_indexOf (fu : Nat) (σ : GS) (x0 : Nat) (x1 : Int32) (x2 : Int32) (x3 : Int32) : Option Int32 := x_J3_indexOf_0 fu σ x0 x1 x2 x3
noncomputable def x_J2_indexOf_2_0 (fu : Nat) (σ : GS) (x0 : Nat) (x1 : Int32) (x2 : Int32) : Option Int32 :=
  ckT σ 6 x0 ((x_J2_isLatin1 σ x0).bind fun r2 => if r2 = 0 then (x_J2_length σ x0).bind fun r5 => ckR (gr σ x0 0) fun a7 => (x_J3_indexOf fu σ a7 x1 x2 r5).bind fun r10 => some r10 else (x_J2_length σ x0).bind fun r12 => ckR (gr σ x0 0) fun a14 => (x_J4_indexOf fu σ a14 x1 x2 r12).bind fun r17 => some r17)
noncomputable def x_J2_indexOf_2 (fu : Nat) (σ : GS) (x0 : Nat) (x1 : Int32) (x2 : Int32) : Option Int32 := x_J2_indexOf_2_0 fu σ x0 x1 x2
noncomputable def x_J2_indexOf_0 (fu : Nat) (σ : GS) (x0 : Nat) (x1 : Int32) : Option Int32 :=
  ckT σ 6 x0 ((x_J2_indexOf_2 fu σ x0 x1 (0 : Int32)).bind fun r2 => some r2)
noncomputable def x_J2_indexOf (fu : Nat) (σ : GS) (x0 : Nat) (x1 : Int32) : Option Int32 := x_J2_indexOf_0 fu σ x0 x1
noncomputable def x_isPlainName_72 (fu : Nat) (σ : GS) (k10 : Nat → Int32 → Int32 → Int32 → Option Int32) (x0 : Nat) (x2 : Int32) (x3 : Int32) (x4 : Int32) : Option Int32 :=
  nx (x4 + (1 : Int32)) fun y1 => k10 x0 x2 x3 y1
noncomputable def x_isPlainName_10 (fu : Nat) (σ : GS) (k10 : Nat → Int32 → Int32 → Int32 → Option Int32) (x0 : Nat) (x2 : Int32) (x3 : Int32) (x4 : Int32) : Option Int32 :=
  if x2 ≤ x4 then some (1 : Int32) else ckT σ 6 x0 ((x_J2_charAt σ x0 x4).bind fun r3 => if r3 = (46 : Int32) then some (0 : Int32) else if r3 = (59 : Int32) then some (0 : Int32) else if r3 = (91 : Int32) then some (0 : Int32) else if r3 = (47 : Int32) then some (0 : Int32) else if x3 = 0 then x_isPlainName_72 fu σ k10 x0 x2 x3 x4 else if r3 = (60 : Int32) then some (0 : Int32) else if r3 = (62 : Int32) then some (0 : Int32) else x_isPlainName_72 fu σ k10 x0 x2 x3 x4)
noncomputable def x_isPlainName_10L (fu : Nat) (σ : GS) (n : Nat) : Nat → Int32 → Int32 → Int32 → Option Int32 := lpF (F := Nat → Int32 → Int32 → Int32 → Option Int32) (fun _ _ _ _ => none) (fun k => x_isPlainName_10 fu σ k) n
noncomputable def x_isPlainName_0 (fu : Nat) (σ : GS) (x0 : Nat) (x1 : Int32) (x2 : Int32) (x3 : Int32) : Option Int32 :=
  if x1 < x2 then x_isPlainName_10L fu σ fu x0 x2 x3 x1 else some (0 : Int32)
noncomputable def x_isPlainName (fu : Nat) (σ : GS) (x0 : Nat) (x1 : Int32) (x2 : Int32) (x3 : Int32) : Option Int32 := x_isPlainName_0 fu σ x0 x1 x2 x3
noncomputable def x_isName_46 (fu : Nat) (σ : GS) (k5 : Nat → Int32 → Int32 → Int32 → Option Int32) (x0 : Nat) (x2 : Int32) (x3 : Int32) (x4 : Int32) : Option Int32 :=
  nx (x4 + (1 : Int32)) fun y1 => k5 x0 x2 x3 y1
noncomputable def x_isName_28 (fu : Nat) (σ : GS) (k5 : Nat → Int32 → Int32 → Int32 → Option Int32) (x0 : Nat) (x2 : Int32) (x3 : Int32) (x4 : Int32) : Option Int32 :=
  (x_isPlainName fu σ x0 x3 x4 (0 : Int32)).bind fun r1 => if r1 = 0 then some (0 : Int32) else nx (x4 + (1 : Int32)) fun y4 => x_isName_46 fu σ k5 x0 x2 y4 x4
noncomputable def x_isName_5 (fu : Nat) (σ : GS) (k5 : Nat → Int32 → Int32 → Int32 → Option Int32) (x0 : Nat) (x2 : Int32) (x3 : Int32) (x4 : Int32) : Option Int32 :=
  if x2 < x4 then some (1 : Int32) else if x4 = x2 then x_isName_28 fu σ k5 x0 x2 x3 x4 else ckT σ 6 x0 ((x_J2_charAt σ x0 x4).bind fun r4 => if r4 = (47 : Int32) then x_isName_28 fu σ k5 x0 x2 x3 x4 else x_isName_46 fu σ k5 x0 x2 x3 x4)
noncomputable def x_isName_5L (fu : Nat) (σ : GS) (n : Nat) : Nat → Int32 → Int32 → Int32 → Option Int32 := lpF (F := Nat → Int32 → Int32 → Int32 → Option Int32) (fun _ _ _ _ => none) (fun k => x_isName_5 fu σ k) n
noncomputable def x_isName_0 (fu : Nat) (σ : GS) (x0 : Nat) (x1 : Int32) (x2 : Int32) : Option Int32 :=
  x_isName_5L fu σ fu x0 x2 x1 x1
noncomputable def x_isName (fu : Nat) (σ : GS) (x0 : Nat) (x1 : Int32) (x2 : Int32) : Option Int32 := x_isName_0 fu σ x0 x1 x2
noncomputable def x_endOfType_131 (fu : Nat) (σ : GS) : Option Int32 :=
  some (-1 : Int32)
noncomputable def x_endOfType_103 (fu : Nat) (σ : GS) (x0 : Nat) (x2 : Int32) (x4 : Int32) : Option Int32 :=
  ckT σ 6 x0 ((x_J2_length σ x0).bind fun r2 => if r2 ≤ x4 then x_endOfType_131 fu σ else (x_isName fu σ x0 (x2 + (1 : Int32)) x4).bind fun r5 => if r5 = 0 then x_endOfType_131 fu σ else some (x4 + (1 : Int32)))
noncomputable def x_endOfType_77 (fu : Nat) (σ : GS) (k77 : Nat → Int32 → Int32 → Option Int32) (x0 : Nat) (x2 : Int32) (x4 : Int32) : Option Int32 :=
  ckT σ 6 x0 ((x_J2_length σ x0).bind fun r2 => if r2 ≤ x4 then x_endOfType_103 fu σ x0 x2 x4 else (x_J2_charAt σ x0 x4).bind fun r5 => if r5 = (59 : Int32) then x_endOfType_103 fu σ x0 x2 x4 else nx (x4 + (1 : Int32)) fun y8 => k77 x0 x2 y8)
noncomputable def x_endOfType_77L (fu : Nat) (σ : GS) (n : Nat) : Nat → Int32 → Int32 → Option Int32 := lpF (F := Nat → Int32 → Int32 → Option Int32) (fun _ _ _ => none) (fun k => x_endOfType_77 fu σ k) n
noncomputable def x_endOfType_26 (fu : Nat) (σ : GS) (x0 : Nat) (x1 : Int32) (x2 : Int32) : Option Int32 :=
  if (255 : Int32) < (x2 - x1) then some (-1 : Int32) else ckT σ 6 x0 ((x_J2_length σ x0).bind fun r3 => if x2 < r3 then (x_J2_charAt σ x0 x2).bind fun r6 => ckT σ 6 (gz σ 0) ((x_J2_indexOf fu σ (gz σ 0) r6).bind fun r9 => if r9 < 0 then if r6 = (76 : Int32) then nx (x2 + (1 : Int32)) fun y13 => x_endOfType_77L fu σ fu x0 x2 y13 else some (-1 : Int32) else some (x2 + (1 : Int32))) else some (-1 : Int32))
noncomputable def x_endOfType_2 (fu : Nat) (σ : GS) (k2 : Nat → Int32 → Int32 → Option Int32) (x0 : Nat) (x1 : Int32) (x2 : Int32) : Option Int32 :=
  ckT σ 6 x0 ((x_J2_length σ x0).bind fun r2 => if r2 ≤ x2 then x_endOfType_26 fu σ x0 x1 x2 else (x_J2_charAt σ x0 x2).bind fun r5 => if r5 = (91 : Int32) then nx (x2 + (1 : Int32)) fun y8 => k2 x0 x1 y8 else x_endOfType_26 fu σ x0 x1 x2)
noncomputable def x_endOfType_2L (fu : Nat) (σ : GS) (n : Nat) : Nat → Int32 → Int32 → Option Int32 := lpF (F := Nat → Int32 → Int32 → Option Int32) (fun _ _ _ => none) (fun k => x_endOfType_2 fu σ k) n
noncomputable def x_endOfType_0 (fu : Nat) (σ : GS) (x0 : Nat) (x1 : Int32) : Option Int32 :=
  x_endOfType_2L fu σ fu x0 x1 x1
noncomputable def x_endOfType (fu : Nat) (σ : GS) (x0 : Nat) (x1 : Int32) : Option Int32 := x_endOfType_0 fu σ x0 x1
noncomputable def x_isFieldType_0 (fu : Nat) (σ : GS) (x0 : Nat) : Option Int32 :=
  (x_endOfType fu σ x0 (0 : Int32)).bind fun r1 => ckT σ 6 x0 ((x_J2_length σ x0).bind fun r4 => if r1 = r4 then some (1 : Int32) else some (0 : Int32))
noncomputable def x_isFieldType (fu : Nat) (σ : GS) (x0 : Nat) : Option Int32 := x_isFieldType_0 fu σ x0
noncomputable def x_placesOf_66 (fu : Nat) (σ : GS) (k24 : Nat → Int32 → Int32 → Option Int32) (x0 : Nat) (x2 : Int32) (t0 : Int32) (t1 : Int32) : Option Int32 :=
  nx (t1 + t0) fun y1 => (x_endOfType fu σ x0 x2).bind fun r2 => if 0 ≤ r2 then k24 x0 y1 r2 else some (-1 : Int32)
noncomputable def x_placesOf_61 (fu : Nat) (σ : GS) (k24 : Nat → Int32 → Int32 → Option Int32) (x0 : Nat) (x2 : Int32) (t0 : Int32) : Option Int32 :=
  x_placesOf_66 fu σ k24 x0 x2 (2 : Int32) t0
noncomputable def x_placesOf_153 (fu : Nat) (σ : GS) (x1 : Int32) : Option Int32 :=
  some x1
noncomputable def x_placesOf_157 (fu : Nat) (σ : GS) : Option Int32 :=
  some (-1 : Int32)
noncomputable def x_placesOf_128 (fu : Nat) (σ : GS) (x0 : Nat) (x1 : Int32) (x2 : Int32) (t0 : Int32) : Option Int32 :=
  if t0 = 0 then ckT σ 6 x0 ((x_J2_length σ x0).bind fun r3 => if r3 ≤ x2 then x_placesOf_157 fu σ else (x_endOfType fu σ x0 x2).bind fun r6 => (x_J2_length σ x0).bind fun r8 => if r6 = r8 then x_placesOf_153 fu σ x1 else x_placesOf_157 fu σ) else x_placesOf_153 fu σ x1
noncomputable def x_placesOf_127 (fu : Nat) (σ : GS) (x0 : Nat) (x1 : Int32) (x2 : Int32) : Option Int32 :=
  x_placesOf_128 fu σ x0 x1 x2 (0 : Int32)
noncomputable def x_placesOf_83 (fu : Nat) (σ : GS) (x0 : Nat) (x1 : Int32) (x2 : Int32) : Option Int32 :=
  ckT σ 6 x0 ((x_J2_length σ x0).bind fun r2 => if r2 ≤ x2 then some (-1 : Int32) else if x1 ≤ (255 : Int32) then nx (x2 + (1 : Int32)) fun y6 => (x_J2_length σ x0).bind fun r7 => if y6 = (r7 - (1 : Int32)) then (x_J2_charAt σ x0 y6).bind fun r10 => if r10 = (86 : Int32) then x_placesOf_128 fu σ x0 x1 y6 (1 : Int32) else x_placesOf_127 fu σ x0 x1 y6 else x_placesOf_127 fu σ x0 x1 y6 else some (-1 : Int32))
noncomputable def x_placesOf_24 (fu : Nat) (σ : GS) (k24 : Nat → Int32 → Int32 → Option Int32) (x0 : Nat) (x1 : Int32) (x2 : Int32) : Option Int32 :=
  ckT σ 6 x0 ((x_J2_length σ x0).bind fun r2 => if r2 ≤ x2 then x_placesOf_83 fu σ x0 x1 x2 else (x_J2_charAt σ x0 x2).bind fun r5 => if r5 = (41 : Int32) then x_placesOf_83 fu σ x0 x1 x2 else (x_J2_charAt σ x0 x2).bind fun r8 => if r8 = (74 : Int32) then x_placesOf_61 fu σ k24 x0 x2 x1 else if r8 = (68 : Int32) then x_placesOf_61 fu σ k24 x0 x2 x1 else x_placesOf_66 fu σ k24 x0 x2 (1 : Int32) x1)
noncomputable def x_placesOf_24L (fu : Nat) (σ : GS) (n : Nat) : Nat → Int32 → Int32 → Option Int32 := lpF (F := Nat → Int32 → Int32 → Option Int32) (fun _ _ _ => none) (fun k => x_placesOf_24 fu σ k) n
noncomputable def x_placesOf_0 (fu : Nat) (σ : GS) (x0 : Nat) : Option Int32 :=
  ckT σ 6 x0 ((x_J2_length σ x0).bind fun r2 => if r2 < (3 : Int32) then some (-1 : Int32) else (x_J2_charAt σ x0 (0 : Int32)).bind fun r5 => if r5 = (40 : Int32) then x_placesOf_24L fu σ fu x0 (0 : Int32) (1 : Int32) else some (-1 : Int32))
noncomputable def x_placesOf (fu : Nat) (σ : GS) (x0 : Nat) : Option Int32 := x_placesOf_0 fu σ x0
noncomputable def x_isMethodType_0 (fu : Nat) (σ : GS) (x0 : Nat) : Option Int32 :=
  (x_placesOf fu σ x0).bind fun r1 => if r1 < 0 then some (0 : Int32) else some (1 : Int32)
noncomputable def x_isMethodType (fu : Nat) (σ : GS) (x0 : Nat) : Option Int32 := x_isMethodType_0 fu σ x0
noncomputable def x_isClass_28 (σ : GS) : Option Int32 :=
  some (0 : Int32)
noncomputable def x_isClass_0 (σ : GS) (x0 : Nat) (x1 : Int32) : Option Int32 :=
  (x_isTag σ x0 x1 (7 : Int32)).bind fun r1 => if r1 = 0 then x_isClass_28 σ else ckT σ 2 x0 (ckK σ 100 (gr σ x0 8) fun a5 => ckIn x1 (gn σ a5) ((x_isTag σ x0 (gi σ a5 x1.toNatClampNeg) (1 : Int32)).bind fun r9 => if r9 = 0 then x_isClass_28 σ else some (1 : Int32)))
noncomputable def x_isClass (σ : GS) (x0 : Nat) (x1 : Int32) : Option Int32 := x_isClass_0 σ x0 x1
noncomputable def x_isPair_42 (σ : GS) : Option Int32 :=
  some (0 : Int32)
noncomputable def x_isPair_0 (σ : GS) (x0 : Nat) (x1 : Int32) : Option Int32 :=
  (x_isTag σ x0 x1 (12 : Int32)).bind fun r1 => if r1 = 0 then x_isPair_42 σ else ckT σ 2 x0 (ckK σ 100 (gr σ x0 8) fun a5 => ckIn x1 (gn σ a5) ((x_isTag σ x0 (gi σ a5 x1.toNatClampNeg) (1 : Int32)).bind fun r9 => if r9 = 0 then x_isPair_42 σ else ckK σ 100 (gr σ x0 9) fun a12 => ckIn x1 (gn σ a12) ((x_isTag σ x0 (gi σ a12 x1.toNatClampNeg) (1 : Int32)).bind fun r16 => if r16 = 0 then x_isPair_42 σ else some (1 : Int32))))
noncomputable def x_isPair (σ : GS) (x0 : Nat) (x1 : Int32) : Option Int32 := x_isPair_0 σ x0 x1
noncomputable def x_nameAt_0 (σ : GS) (x0 : Nat) (x1 : Int32) : Option (Option Nat) :=
  ckT σ 2 x0 (ckK σ 100 (gr σ x0 9) fun a2 => ckIn x1 (gn σ a2) (ckK σ 100 (gr σ x0 8) fun a6 => ckIn (gi σ a2 x1.toNatClampNeg) (gn σ a6) (ckK σ 105 (gr σ x0 11) fun a10 => ckIn (gi σ a6 (gi σ a2 x1.toNatClampNeg).toNatClampNeg) (gn σ a10) (some (gr σ a10 (gi σ a6 (gi σ a2 x1.toNatClampNeg).toNatClampNeg).toNatClampNeg)))))
noncomputable def x_nameAt (σ : GS) (x0 : Nat) (x1 : Int32) : Option (Option Nat) := x_nameAt_0 σ x0 x1
noncomputable def x_typeAt_0 (σ : GS) (x0 : Nat) (x1 : Int32) : Option (Option Nat) :=
  ckT σ 2 x0 (ckK σ 100 (gr σ x0 9) fun a2 => ckIn x1 (gn σ a2) (ckIn (gi σ a2 x1.toNatClampNeg) (gn σ a2) (ckK σ 105 (gr σ x0 11) fun a7 => ckIn (gi σ a2 (gi σ a2 x1.toNatClampNeg).toNatClampNeg) (gn σ a7) (some (gr σ a7 (gi σ a2 (gi σ a2 x1.toNatClampNeg).toNatClampNeg).toNatClampNeg)))))
noncomputable def x_typeAt (σ : GS) (x0 : Nat) (x1 : Int32) : Option (Option Nat) := x_typeAt_0 σ x0 x1
noncomputable def x_J4_equals_9 (fu : Nat) (σ : GS) (k9 : Nat → Nat → Int32 → Option Int32) (x0 : Nat) (x1 : Nat) (x2 : Int32) : Option Int32 :=
  ckT σ 101 x0 (if (nI (gn σ x0)) ≤ x2 then some (1 : Int32) else ckIn x2 (gn σ x0) (ckT σ 101 x1 (ckIn x2 (gn σ x1) (if (gi σ x0 x2.toNatClampNeg) = (gi σ x1 x2.toNatClampNeg) then nx (x2 + (1 : Int32)) fun y7 => k9 x0 x1 y7 else some (0 : Int32)))))
noncomputable def x_J4_equals_9L (fu : Nat) (σ : GS) (n : Nat) : Nat → Nat → Int32 → Option Int32 := lpF (F := Nat → Nat → Int32 → Option Int32) (fun _ _ _ => none) (fun k => x_J4_equals_9 fu σ k) n
noncomputable def x_J4_equals_0 (fu : Nat) (σ : GS) (x0 : Nat) (x1 : Nat) : Option Int32 :=
  ckT σ 101 x0 (ckT σ 101 x1 (if (nI (gn σ x0)) = (nI (gn σ x1)) then x_J4_equals_9L fu σ fu x0 x1 (0 : Int32) else some (0 : Int32)))
noncomputable def x_J4_equals (fu : Nat) (σ : GS) (x0 : Nat) (x1 : Nat) : Option Int32 := x_J4_equals_0 fu σ x0 x1
noncomputable def x_J2_equals_54 (fu : Nat) (σ : GS) : Option Int32 :=
  some (0 : Int32)
noncomputable def x_J2_equals_36 (fu : Nat) (σ : GS) (x0 : Nat) (x2 : Nat) : Option Int32 :=
  ckT σ 6 x0 (ckT σ 6 x2 (ckR (gr σ x0 0) fun a3 => ckR (gr σ x2 0) fun a6 => (x_J4_equals fu σ a3 a6).bind fun r9 => if r9 = 0 then x_J2_equals_54 fu σ else some (1 : Int32)))
noncomputable def x_J2_equals_0 (fu : Nat) (σ : GS) (x0 : Nat) (x1 : Nat) : Option Int32 :=
  if (some x0) = (some x1) then some (1 : Int32) else ckT σ 6 x1 (if (1 : Int32) = 0 then x_J2_equals_54 fu σ else if (1 : Int32) = 0 then x_J2_equals_36 fu σ x0 x1 else ckT σ 6 x0 (if (gi σ x0 1) = (gi σ x1 1) then x_J2_equals_36 fu σ x0 x1 else x_J2_equals_54 fu σ))
noncomputable def x_J2_equals (fu : Nat) (σ : GS) (x0 : Nat) (x1 : Nat) : Option Int32 := x_J2_equals_0 fu σ x0 x1
noncomputable def x_hasAngles_18 (fu : Nat) (σ : GS) : Option Int32 :=
  some (1 : Int32)
noncomputable def x_hasAngles_0 (fu : Nat) (σ : GS) (x0 : Nat) : Option Int32 :=
  ckT σ 6 x0 ((x_J2_indexOf fu σ x0 (60 : Int32)).bind fun r2 => if 0 ≤ r2 then x_hasAngles_18 fu σ else (x_J2_indexOf fu σ x0 (62 : Int32)).bind fun r5 => if r5 < 0 then some (0 : Int32) else x_hasAngles_18 fu σ)
noncomputable def x_hasAngles (fu : Nat) (σ : GS) (x0 : Nat) : Option Int32 := x_hasAngles_0 fu σ x0
noncomputable def x_isWhole_30 (σ : GS) : Option Int32 :=
  some (0 : Int32)
noncomputable def x_isWhole_0 (σ : GS) (x0 : Nat) (x1 : Int32) : Option Int32 :=
  ckT σ 2 x0 (ckK σ 100 (gr σ x0 8) fun a2 => ckIn x1 (gn σ a2) ((x_isClass σ x0 (gi σ a2 x1.toNatClampNeg)).bind fun r6 => if r6 = 0 then x_isWhole_30 σ else ckK σ 100 (gr σ x0 9) fun a9 => ckIn x1 (gn σ a9) ((x_isPair σ x0 (gi σ a9 x1.toNatClampNeg)).bind fun r13 => if r13 = 0 then x_isWhole_30 σ else some (1 : Int32))))
noncomputable def x_isWhole (σ : GS) (x0 : Nat) (x1 : Int32) : Option Int32 := x_isWhole_0 σ x0 x1
noncomputable def x_ruleOfEntry_109 (fu : Nat) (σ : GS) (x5 : Option Nat) : Option Int32 :=
  ckK σ 6 x5 fun a1 => (x_J2_length σ a1).bind fun r4 => (x_isName fu σ a1 (0 : Int32) r4).bind fun r6 => if r6 = 0 then some (10 : Int32) else some (0 : Int32)
noncomputable def x_ruleOfEntry_149 (fu : Nat) (σ : GS) : Option Int32 :=
  some (0 : Int32)
noncomputable def x_ruleOfEntry_52 (fu : Nat) (σ : GS) (x0 : Nat) (x2 : Int32) (x3 : Int32) : Option Int32 :=
  (x_textAt σ x0 x3).bind fun r1 => if r1 = none then some (9 : Int32) else if x2 = (7 : Int32) then ckK σ 6 r1 fun a12 => (x_J2_length σ a12).bind fun r15 => if r15 ≤ 0 then x_ruleOfEntry_109 fu σ r1 else (x_J2_charAt σ a12 (0 : Int32)).bind fun r18 => if r18 = (91 : Int32) then (x_isFieldType fu σ a12).bind fun r21 => if r21 = 0 then some (10 : Int32) else some (0 : Int32) else x_ruleOfEntry_109 fu σ r1 else if x2 = (16 : Int32) then ckR r1 fun a6 => (x_isMethodType fu σ a6).bind fun r9 => if r9 = 0 then some (14 : Int32) else x_ruleOfEntry_149 fu σ else x_ruleOfEntry_149 fu σ
noncomputable def x_ruleOfEntry_216 (fu : Nat) (σ : GS) : Option Int32 :=
  some (0 : Int32)
noncomputable def x_ruleOfEntry_220 (fu : Nat) (σ : GS) : Option Int32 :=
  some (11 : Int32)
noncomputable def x_ruleOfEntry_355 (fu : Nat) (σ : GS) : Option Int32 :=
  some (0 : Int32)
noncomputable def x_ruleOfEntry_340 (fu : Nat) (σ : GS) (x5 : Option Nat) (t0 : Int32) : Option Int32 :=
  if t0 = 0 then ckR x5 fun a2 => (x_hasAngles fu σ a2).bind fun r5 => if r5 = 0 then x_ruleOfEntry_355 fu σ else some (12 : Int32) else x_ruleOfEntry_355 fu σ
noncomputable def x_ruleOfEntry_339 (fu : Nat) (σ : GS) (x5 : Option Nat) : Option Int32 :=
  x_ruleOfEntry_340 fu σ x5 (0 : Int32)
noncomputable def x_ruleOfEntry_574 (fu : Nat) (σ : GS) : Option Int32 :=
  some (13 : Int32)
noncomputable def x_ruleOfEntry_579 (fu : Nat) (σ : GS) : Option Int32 :=
  some (0 : Int32)
noncomputable def x_ruleOfEntry_571 (fu : Nat) (σ : GS) (t0 : Int32) (t1 : Int32) : Option Int32 :=
  if t1 = t0 then x_ruleOfEntry_579 fu σ else x_ruleOfEntry_574 fu σ
noncomputable def x_ruleOfEntry_536 (fu : Nat) (σ : GS) (x0 : Nat) (x3 : Int32) (x4 : Int32) (t0 : Int32) : Option Int32 :=
  if t0 = 0 then x_ruleOfEntry_574 fu σ else if x3 ≤ (4 : Int32) then x_ruleOfEntry_579 fu σ else (x_nameAt σ x0 x4).bind fun r3 => ckK σ 6 r3 fun a5 => (x_J2_equals fu σ a5 (gz σ 1)).bind fun r8 => if x3 = (8 : Int32) then x_ruleOfEntry_571 fu σ (1 : Int32) r8 else x_ruleOfEntry_571 fu σ (0 : Int32) r8
noncomputable def x_ruleOfEntry_472 (fu : Nat) (σ : GS) (x0 : Nat) (x3 : Int32) (x4 : Int32) : Option Int32 :=
  (x_isTag σ x0 x4 (10 : Int32)).bind fun r1 => x_ruleOfEntry_536 fu σ x0 x3 x4 r1
noncomputable def x_ruleOfEntry_531 (fu : Nat) (σ : GS) (x0 : Nat) (x3 : Int32) (x4 : Int32) : Option Int32 :=
  x_ruleOfEntry_536 fu σ x0 x3 x4 (1 : Int32)
noncomputable def x_ruleOfEntry_535 (fu : Nat) (σ : GS) (x0 : Nat) (x3 : Int32) (x4 : Int32) : Option Int32 :=
  x_ruleOfEntry_536 fu σ x0 x3 x4 (0 : Int32)
noncomputable def x_ruleOfEntry_431 (fu : Nat) (σ : GS) (x0 : Nat) (x3 : Int32) (x4 : Int32) : Option Int32 :=
  if x3 < (1 : Int32) then some (13 : Int32) else if x3 ≤ (9 : Int32) then if (4 : Int32) < x3 then if x3 = (5 : Int32) then x_ruleOfEntry_472 fu σ x0 x3 x4 else if x3 = (8 : Int32) then x_ruleOfEntry_472 fu σ x0 x3 x4 else if x3 = (9 : Int32) then (x_isTag σ x0 x4 (11 : Int32)).bind fun r15 => x_ruleOfEntry_536 fu σ x0 x3 x4 r15 else (x_isTag σ x0 x4 (10 : Int32)).bind fun r7 => if r7 = 0 then ckT σ 2 x0 (if (gi σ x0 1) < (52 : Int32) then x_ruleOfEntry_535 fu σ x0 x3 x4 else (x_isTag σ x0 x4 (11 : Int32)).bind fun r12 => if r12 = 0 then x_ruleOfEntry_535 fu σ x0 x3 x4 else x_ruleOfEntry_531 fu σ x0 x3 x4) else x_ruleOfEntry_531 fu σ x0 x3 x4 else (x_isTag σ x0 x4 (9 : Int32)).bind fun r17 => x_ruleOfEntry_536 fu σ x0 x3 x4 r17 else some (13 : Int32)
noncomputable def x_ruleOfEntry_656 (fu : Nat) (σ : GS) : Option Int32 :=
  some (14 : Int32)
noncomputable def x_ruleOfEntry_637 (fu : Nat) (σ : GS) (x5 : Option Nat) (t0 : Int32) : Option Int32 :=
  if t0 = 0 then x_ruleOfEntry_656 fu σ else ckR x5 fun a2 => (x_hasAngles fu σ a2).bind fun r5 => if r5 = 0 then some (0 : Int32) else x_ruleOfEntry_656 fu σ
noncomputable def x_ruleOfEntry_593 (fu : Nat) (σ : GS) (x0 : Nat) (x1 : Int32) (x2 : Int32) (x4 : Int32) : Option Int32 :=
  (x_isPair σ x0 x4).bind fun r1 => if r1 = 0 then some (9 : Int32) else (x_nameAt σ x0 x1).bind fun r4 => if x2 = (17 : Int32) then (x_typeAt σ x0 x1).bind fun r14 => ckR r14 fun a16 => (x_isFieldType fu σ a16).bind fun r19 => x_ruleOfEntry_637 fu σ r4 r19 else (x_typeAt σ x0 x1).bind fun r7 => ckR r7 fun a9 => (x_isMethodType fu σ a9).bind fun r12 => x_ruleOfEntry_637 fu σ r4 r12
noncomputable def x_ruleOfEntry_362 (fu : Nat) (σ : GS) (x0 : Nat) (x1 : Int32) (x2 : Int32) (x3 : Int32) (x4 : Int32) : Option Int32 :=
  if x2 = (15 : Int32) then if x4 = 0 then some (9 : Int32) else ckT σ 2 x0 (if (gi σ x0 6) ≤ x4 then some (9 : Int32) else ckK σ 101 (gr σ x0 7) fun a7 => ckIn x4 (gn σ a7) (if (gi σ a7 x4.toNatClampNeg) = 0 then some (9 : Int32) else ckIn x4 (gn σ a7) (if (gi σ a7 x4.toNatClampNeg) < (9 : Int32) then x_ruleOfEntry_431 fu σ x0 x3 x4 else ckIn x4 (gn σ a7) (if (11 : Int32) < (gi σ a7 x4.toNatClampNeg) then x_ruleOfEntry_431 fu σ x0 x3 x4 else (x_isWhole σ x0 x4).bind fun r16 => if r16 = 0 then some (9 : Int32) else x_ruleOfEntry_431 fu σ x0 x3 x4)))) else if x2 = (17 : Int32) then x_ruleOfEntry_593 fu σ x0 x1 x2 x4 else if x2 = (18 : Int32) then x_ruleOfEntry_593 fu σ x0 x1 x2 x4 else some (0 : Int32)
noncomputable def x_ruleOfEntry_0 (fu : Nat) (σ : GS) (x0 : Nat) (x1 : Int32) : Option Int32 :=
  ckT σ 2 x0 (ckK σ 101 (gr σ x0 7) fun a2 => ckIn x1 (gn σ a2) (nx (gi σ a2 x1.toNatClampNeg) fun y6 => ckK σ 100 (gr σ x0 8) fun a7 => ckIn x1 (gn σ a7) (nx (gi σ a7 x1.toNatClampNeg) fun y11 => ckK σ 100 (gr σ x0 9) fun a12 => ckIn x1 (gn σ a12) (nx (gi σ a12 x1.toNatClampNeg) fun y16 => if y6 = (7 : Int32) then x_ruleOfEntry_52 fu σ x0 y6 y11 else if y6 = (8 : Int32) then x_ruleOfEntry_52 fu σ x0 y6 y11 else if y6 = (16 : Int32) then x_ruleOfEntry_52 fu σ x0 y6 y11 else if y6 = (19 : Int32) then x_ruleOfEntry_52 fu σ x0 y6 y11 else if y6 = (20 : Int32) then x_ruleOfEntry_52 fu σ x0 y6 y11 else if y6 = (12 : Int32) then (x_textAt σ x0 y11).bind fun r61 => (x_textAt σ x0 y16).bind fun r63 => if r61 = none then some (9 : Int32) else if r63 = none then some (9 : Int32) else ckK σ 6 r61 fun a67 => (x_J2_length σ a67).bind fun r70 => (x_isPlainName fu σ a67 (0 : Int32) r70 (0 : Int32)).bind fun r72 => if r72 = 0 then x_ruleOfEntry_220 fu σ else ckR r63 fun a75 => (x_isFieldType fu σ a75).bind fun r78 => if r78 = 0 then (x_isMethodType fu σ a75).bind fun r81 => if r81 = 0 then x_ruleOfEntry_220 fu σ else x_ruleOfEntry_216 fu σ else x_ruleOfEntry_216 fu σ else if y6 < (9 : Int32) then x_ruleOfEntry_362 fu σ x0 x1 y6 y11 y16 else if (11 : Int32) < y6 then x_ruleOfEntry_362 fu σ x0 x1 y6 y11 y16 else (x_isClass σ x0 y11).bind fun r25 => if r25 = 0 then some (9 : Int32) else (x_isPair σ x0 y16).bind fun r28 => if r28 = 0 then some (9 : Int32) else (x_nameAt σ x0 x1).bind fun r31 => (x_typeAt σ x0 x1).bind fun r33 => if y6 = (9 : Int32) then ckR r33 fun a55 => (x_isFieldType fu σ a55).bind fun r58 => if r58 = 0 then some (12 : Int32) else some (0 : Int32) else ckR r33 fun a36 => (x_isMethodType fu σ a36).bind fun r39 => if r39 = 0 then some (12 : Int32) else if y6 = (10 : Int32) then ckK σ 6 r31 fun a43 => (x_J2_equals fu σ a43 (gz σ 1)).bind fun r46 => if r46 = 0 then x_ruleOfEntry_339 fu σ r31 else ckT σ 6 a36 ((x_J2_length σ a36).bind fun r50 => (x_J2_charAt σ a36 (r50 - (1 : Int32))).bind fun r52 => if r52 = (86 : Int32) then x_ruleOfEntry_340 fu σ r31 (1 : Int32) else x_ruleOfEntry_339 fu σ r31) else x_ruleOfEntry_339 fu σ r31))))
noncomputable def x_ruleOfEntry (fu : Nat) (σ : GS) (x0 : Nat) (x1 : Int32) : Option Int32 := x_ruleOfEntry_0 fu σ x0 x1
noncomputable def x_checkPool_2 (fu : Nat) (k2 : GS → Nat → Nat → Int32 → Option (Int32 × GS)) (σ : GS) (x0 : Nat) (x1 : Nat) (x2 : Int32) : Option (Int32 × GS) :=
  ckT σ 2 x1 (if (gi σ x1 6) ≤ x2 then some ((1 : Int32), σ) else (x_ruleOfEntry fu σ x1 x2).bind fun r3 => if r3 ≤ 0 then nx (x2 + (1 : Int32)) fun y6 => k2 σ x0 x1 y6 else ckT σ 1 x0 (ckK σ 100 (gr σ x0 7) fun a8 => ckIn x2 (gn σ a8) ((x_wrong σ x0 r3 (gi σ a8 x2.toNatClampNeg)).bind fun r12 => ckN .boolean r12.1 (some (r12.1, r12.2)))))
noncomputable def x_checkPool_2L (fu : Nat) (n : Nat) : GS → Nat → Nat → Int32 → Option (Int32 × GS) := lpF (F := GS → Nat → Nat → Int32 → Option (Int32 × GS)) (fun _ _ _ _ => none) (fun k => x_checkPool_2 fu k) n
noncomputable def x_checkPool_0 (fu : Nat) (σ : GS) (x0 : Nat) (x1 : Nat) : Option (Int32 × GS) :=
  x_checkPool_2L fu fu σ x0 x1 (1 : Int32)
noncomputable def x_checkPool (fu : Nat) (σ : GS) (x0 : Nat) (x1 : Nat) : Option (Int32 × GS) := x_checkPool_0 fu σ x0 x1
noncomputable def x_classAt_0 (σ : GS) (x0 : Nat) (x1 : Int32) : Option (Option Nat) :=
  ckT σ 2 x0 (ckK σ 100 (gr σ x0 8) fun a2 => ckIn x1 (gn σ a2) (ckK σ 105 (gr σ x0 11) fun a6 => ckIn (gi σ a2 x1.toNatClampNeg) (gn σ a6) (some (gr σ a6 (gi σ a2 x1.toNatClampNeg).toNatClampNeg))))
noncomputable def x_classAt (σ : GS) (x0 : Nat) (x1 : Int32) : Option (Option Nat) := x_classAt_0 σ x0 x1
noncomputable def x_isArrayClass_0 (σ : GS) (x0 : Nat) (x1 : Int32) : Option Int32 :=
  (x_classAt σ x0 x1).bind fun r1 => ckK σ 6 r1 fun a3 => (x_J2_charAt σ a3 (0 : Int32)).bind fun r6 => if r6 = (91 : Int32) then some (1 : Int32) else some (0 : Int32)
noncomputable def x_isArrayClass (σ : GS) (x0 : Nat) (x1 : Int32) : Option Int32 := x_isArrayClass_0 σ x0 x1
noncomputable def x_checkHead_88 (fu : Nat) (σ : GS) (x0 : Nat) : Option (Int32 × GS) :=
  ckT σ 1 x0 ((x_wrong σ x0 (15 : Int32) (gi σ x0 9)).bind fun r2 => ckN .boolean r2.1 (some (r2.1, r2.2)))
noncomputable def x_checkHead_136 (fu : Nat) (σ : GS) (x0 : Nat) : Option (Int32 × GS) :=
  ckT σ 1 x0 ((x_wrong σ x0 (16 : Int32) ((gi σ x0 9) + (2 : Int32))).bind fun r2 => ckN .boolean r2.1 (some (r2.1, r2.2)))
noncomputable def x_checkHead_206 (fu : Nat) (σ : GS) (x0 : Nat) : Option (Int32 × GS) :=
  ckT σ 1 x0 ((x_wrong σ x0 (17 : Int32) ((gi σ x0 9) + (4 : Int32))).bind fun r2 => ckN .boolean r2.1 (some (r2.1, r2.2)))
noncomputable def x_checkHead_298 (fu : Nat) (σ : GS) (x0 : Nat) (x8 : Int32) : Option (Int32 × GS) :=
  ckT σ 1 x0 ((x_wrong σ x0 (18 : Int32) x8).bind fun r2 => ckN .boolean r2.1 (some (r2.1, r2.2)))
noncomputable def x_checkHead_310 (fu : Nat) (k249 : GS → Nat → Nat → Int32 → Int32 → Option (Int32 × GS)) (k310 : GS → Nat → Nat → Int32 → Int32 → Int32 → Int32 → Int32 → Option (Int32 × GS)) (σ : GS) (x0 : Nat) (x1 : Nat) (x6 : Int32) (x7 : Int32) (x8 : Int32) (x9 : Int32) (x10 : Int32) : Option (Int32 × GS) :=
  if x7 ≤ x10 then ckT σ 2 x1 (ckK σ 100 (gr σ x1 5) fun a3 => ckIn x7 (gn σ a3) (nx (gpi σ a3 x7.toNatClampNeg x9) fun s7 => nx (x7 + (1 : Int32)) fun y8 => k249 s7 x0 x1 x6 y8)) else ckT σ 2 x1 (ckK σ 100 (gr σ x1 5) fun a10 => ckIn x10 (gn σ a10) ((x_classAt σ x1 (gi σ a10 x10.toNatClampNeg)).bind fun r14 => (x_classAt σ x1 x9).bind fun r16 => ckK σ 6 r14 fun a18 => ckR r16 fun a21 => (x_J2_equals fu σ a18 a21).bind fun r24 => if r24 = 0 then nx (x10 + (1 : Int32)) fun y27 => k310 σ x0 x1 x6 x7 x8 x9 y27 else ckT σ 1 x0 ((x_wrong σ x0 (18 : Int32) x8).bind fun r29 => ckN .boolean r29.1 (some (r29.1, r29.2)))))
noncomputable def x_checkHead_310L (fu : Nat) (k249 : GS → Nat → Nat → Int32 → Int32 → Option (Int32 × GS)) (n : Nat) : GS → Nat → Nat → Int32 → Int32 → Int32 → Int32 → Int32 → Option (Int32 × GS) := lpF (F := GS → Nat → Nat → Int32 → Int32 → Int32 → Int32 → Int32 → Option (Int32 × GS)) (fun _ _ _ _ _ _ _ _ => none) (fun k => x_checkHead_310 fu k249 k) n
noncomputable def x_checkHead_249 (fu : Nat) (k249 : GS → Nat → Nat → Int32 → Int32 → Option (Int32 × GS)) (σ : GS) (x0 : Nat) (x1 : Nat) (x6 : Int32) (x7 : Int32) : Option (Int32 × GS) :=
  if x6 ≤ x7 then some ((1 : Int32), σ) else ckT σ 1 x0 (nx (((gi σ x0 9) + (8 : Int32)) + ((2 : Int32) * x7)) fun y3 => (x_u2 σ x0 y3).bind fun r4 => (x_isTag σ x1 r4 (7 : Int32)).bind fun r6 => if r6 = 0 then x_checkHead_298 fu σ x0 y3 else (x_isArrayClass σ x1 r4).bind fun r9 => if r9 = 0 then x_checkHead_310L fu k249 fu σ x0 x1 x6 x7 y3 r4 (0 : Int32) else x_checkHead_298 fu σ x0 y3)
noncomputable def x_checkHead_249L (fu : Nat) (n : Nat) : GS → Nat → Nat → Int32 → Int32 → Option (Int32 × GS) := lpF (F := GS → Nat → Nat → Int32 → Int32 → Option (Int32 × GS)) (fun _ _ _ _ _ => none) (fun k => x_checkHead_249 fu k) n
noncomputable def x_checkHead_219 (fu : Nat) (σ : GS) (x0 : Nat) (x1 : Nat) (x5 : Int32) : Option (Int32 × GS) :=
  ckT σ 2 x1 (nx (gpi σ x1 4 x5) fun s2 => ckT s2 1 x0 ((x_u2 s2 x0 ((gi s2 x0 9) + (6 : Int32))).bind fun r4 => ckL r4 (ckC s2 r4.toNatClampNeg (nx (gx s2) fun a8 => nx (gnew s2 100 r4.toNatClampNeg r4.toNatClampNeg) fun s9 => ckT s9 2 x1 (nx (gpr s9 x1 5 (some a8)) fun s12 => x_checkHead_249L fu fu s12 x0 x1 r4 (0 : Int32))))))
noncomputable def x_checkHead_99 (fu : Nat) (σ : GS) (x0 : Nat) (x1 : Nat) (x2 : Int32) (x3 : Int32) : Option (Int32 × GS) :=
  ckT σ 2 x1 (nx (gpi σ x1 0 x2) fun s2 => ckT s2 1 x0 ((x_u2 s2 x0 ((gi s2 x0 9) + (2 : Int32))).bind fun r4 => (x_isTag s2 x1 r4 (7 : Int32)).bind fun r6 => if r6 = 0 then x_checkHead_136 fu s2 x0 else (x_isArrayClass s2 x1 r4).bind fun r9 => if r9 = 0 then nx (gpi s2 x1 3 r4) fun s12 => (x_u2 s12 x0 ((gi s12 x0 9) + (4 : Int32))).bind fun r13 => (x_isTag s12 x1 r13 (7 : Int32)).bind fun r15 => if r15 = 0 then x_checkHead_206 fu s12 x0 else (x_isArrayClass s12 x1 r13).bind fun r18 => if r18 = 0 then if x3 = 0 then x_checkHead_219 fu s12 x0 x1 r13 else (x_classAt s12 x1 r13).bind fun r22 => ckK s12 6 r22 fun a24 => (x_J2_equals fu s12 a24 (gz s12 2)).bind fun r27 => if r27 = 0 then x_checkHead_206 fu s12 x0 else x_checkHead_219 fu s12 x0 x1 r13 else x_checkHead_206 fu s12 x0 else x_checkHead_136 fu s2 x0))
noncomputable def x_checkHead_22 (fu : Nat) (σ : GS) (x0 : Nat) (x1 : Nat) (x2 : Int32) (t0 : Int32) : Option (Int32 × GS) :=
  if (x2 &&& (32768 : Int32)) = 0 then if t0 = 0 then if (x2 &&& (8192 : Int32)) = 0 then if (x2 &&& (16 : Int32)) = 0 then x_checkHead_99 fu σ x0 x1 x2 t0 else if (x2 &&& (1024 : Int32)) = 0 then x_checkHead_99 fu σ x0 x1 x2 t0 else x_checkHead_88 fu σ x0 else x_checkHead_88 fu σ x0 else if (x2 &&& (1024 : Int32)) = 0 then x_checkHead_88 fu σ x0 else if (x2 &&& (16432 : Int32)) = 0 then x_checkHead_99 fu σ x0 x1 x2 t0 else x_checkHead_88 fu σ x0 else ckT σ 1 x0 ((x_wrong σ x0 (15 : Int32) (gi σ x0 9)).bind fun r9 => ckN .boolean r9.1 (some (r9.1, r9.2)))
noncomputable def x_checkHead_0 (fu : Nat) (σ : GS) (x0 : Nat) (x1 : Nat) : Option (Int32 × GS) :=
  ckT σ 1 x0 ((x_u2 σ x0 (gi σ x0 9)).bind fun r2 => if (r2 &&& (512 : Int32)) = 0 then x_checkHead_22 fu σ x0 x1 r2 (0 : Int32) else x_checkHead_22 fu σ x0 x1 r2 (1 : Int32))
noncomputable def x_checkHead (fu : Nat) (σ : GS) (x0 : Nat) (x1 : Nat) : Option (Int32 × GS) := x_checkHead_0 fu σ x0 x1
noncomputable def x_X4_init_0 (σ : GS) (x0 : Nat) : Option Unit :=
  some ()
noncomputable def x_X4_init (σ : GS) (x0 : Nat) : Option Unit := x_X4_init_0 σ x0
noncomputable def x_isMoreThanOne_23 (σ : GS) : Option Int32 :=
  some (1 : Int32)
noncomputable def x_isMoreThanOne_0 (σ : GS) (x0 : Int32) : Option Int32 :=
  if (x0 &&& (3 : Int32)) = (3 : Int32) then x_isMoreThanOne_23 σ else if (x0 &&& (5 : Int32)) = (5 : Int32) then x_isMoreThanOne_23 σ else if (x0 &&& (6 : Int32)) = (6 : Int32) then x_isMoreThanOne_23 σ else some (0 : Int32)
noncomputable def x_isMoreThanOne (σ : GS) (x0 : Int32) : Option Int32 := x_isMoreThanOne_0 σ x0
noncomputable def x_X3_isFace_0 (σ : GS) (x0 : Nat) : Option Int32 :=
  ckT σ 2 x0 (if ((gi σ x0 0) &&& (512 : Int32)) = 0 then some (0 : Int32) else some (1 : Int32))
noncomputable def x_X3_isFace (σ : GS) (x0 : Nat) : Option Int32 := x_X3_isFace_0 σ x0
noncomputable def x_kindAt_0 (fu : Nat) (σ : GS) (x0 : Nat) (x1 : Int32) : Option Int32 :=
  ckT σ 6 x0 ((x_J2_charAt σ x0 x1).bind fun r2 => ckT σ 6 (gz σ 0) ((x_J2_indexOf fu σ (gz σ 0) r2).bind fun r5 => if r5 < 0 then if r2 = (86 : Int32) then some (9 : Int32) else some (8 : Int32) else some r5))
noncomputable def x_kindAt (fu : Nat) (σ : GS) (x0 : Nat) (x1 : Int32) : Option Int32 := x_kindAt_0 fu σ x0 x1
noncomputable def x_known_83 (fu : Nat) (σ : GS) : Option Int32 :=
  some (0 : Int32)
noncomputable def x_known_225 (fu : Nat) (σ : GS) : Option Int32 :=
  some (0 : Int32)
noncomputable def x_known_0 (fu : Nat) (σ : GS) (x0 : Nat) (x1 : Int32) (x2 : Nat) : Option Int32 :=
  if x1 = 0 then ckT σ 6 x2 ((x_J2_equals fu σ x2 (gz σ 3)).bind fun r47 => if r47 = 0 then some (0 : Int32) else some (1 : Int32)) else if x1 = (1 : Int32) then ckT σ 6 x2 ((x_J2_equals fu σ x2 (gz σ 4)).bind fun r40 => if r40 = 0 then (x_J2_equals fu σ x2 (gz σ 5)).bind fun r43 => if r43 = 0 then some (0 : Int32) else some (3 : Int32) else some (2 : Int32)) else if x1 = (2 : Int32) then ckT σ 6 x2 ((x_J2_equals fu σ x2 (gz σ 6)).bind fun r34 => if r34 = 0 then x_known_83 fu σ else ckT σ 2 x0 (if (gi σ x0 1) < (50 : Int32) then x_known_83 fu σ else some (4 : Int32))) else ckT σ 6 x2 ((x_J2_equals fu σ x2 (gz σ 7)).bind fun r5 => if r5 = 0 then (x_J2_equals fu σ x2 (gz σ 8)).bind fun r8 => if r8 = 0 then (x_J2_equals fu σ x2 (gz σ 9)).bind fun r11 => if r11 = 0 then (x_J2_equals fu σ x2 (gz σ 10)).bind fun r14 => if r14 = 0 then (x_J2_equals fu σ x2 (gz σ 11)).bind fun r17 => if r17 = 0 then (x_J2_equals fu σ x2 (gz σ 12)).bind fun r20 => if r20 = 0 then x_known_225 fu σ else ckT σ 2 x0 (if (gi σ x0 1) < (61 : Int32) then x_known_225 fu σ else some (10 : Int32)) else ckT σ 2 x0 (if (gi σ x0 1) < (60 : Int32) then some (0 : Int32) else some (9 : Int32)) else ckT σ 2 x0 (if (gi σ x0 1) < (55 : Int32) then some (0 : Int32) else some (8 : Int32)) else ckT σ 2 x0 (if (gi σ x0 1) < (55 : Int32) then some (0 : Int32) else some (7 : Int32)) else ckT σ 2 x0 (if (gi σ x0 1) < (51 : Int32) then some (0 : Int32) else some (6 : Int32)) else some (5 : Int32))
noncomputable def x_known (fu : Nat) (σ : GS) (x0 : Nat) (x1 : Int32) (x2 : Nat) : Option Int32 := x_known_0 fu σ x0 x1 x2
noncomputable def x_isConstant_101 (fu : Nat) (σ : GS) : Option Int32 :=
  some (0 : Int32)
noncomputable def x_isConstant_0 (fu : Nat) (σ : GS) (x0 : Nat) (x1 : Nat) : Option Int32 :=
  ckT σ 3 x1 (nx (gi σ x1 5) fun y2 => if (gi σ x1 6) = (2 : Int32) then (x_isTag σ x0 y2 (4 : Int32)).bind fun r4 => ckN .boolean r4 (some r4) else if (gi σ x1 6) = (3 : Int32) then (x_isTag σ x0 y2 (6 : Int32)).bind fun r8 => ckN .boolean r8 (some r8) else if (gi σ x1 6) = (4 : Int32) then (x_isTag σ x0 y2 (3 : Int32)).bind fun r12 => ckN .boolean r12 (some r12) else if (gi σ x1 6) = (5 : Int32) then (x_isTag σ x0 y2 (3 : Int32)).bind fun r16 => ckN .boolean r16 (some r16) else if (gi σ x1 6) = (6 : Int32) then (x_isTag σ x0 y2 (3 : Int32)).bind fun r20 => ckN .boolean r20 (some r20) else if (gi σ x1 6) = (7 : Int32) then (x_isTag σ x0 y2 (5 : Int32)).bind fun r24 => ckN .boolean r24 (some r24) else if (gi σ x1 6) = (8 : Int32) then ckK σ 6 (gr σ x1 1) fun a28 => (x_J2_equals fu σ a28 (gz σ 13)).bind fun r31 => if r31 = 0 then x_isConstant_101 fu σ else (x_isTag σ x0 y2 (8 : Int32)).bind fun r34 => if r34 = 0 then x_isConstant_101 fu σ else some (1 : Int32) else (x_isTag σ x0 y2 (3 : Int32)).bind fun r37 => ckN .boolean r37 (some r37))
noncomputable def x_isConstant (fu : Nat) (σ : GS) (x0 : Nat) (x1 : Nat) : Option Int32 := x_isConstant_0 fu σ x0 x1
noncomputable def x_endOfAttributes_23 (fu : Nat) (σ : GS) (k23 : Nat → Int32 → Int32 → Int32 → Int32 → Option Int32) (x0 : Nat) (x2 : Int32) (x3 : Int32) (x4 : Int32) (x5 : Int32) : Option Int32 :=
  if x3 ≤ x5 then some x4 else if (x4 + (6 : Int32)) ≤ x2 then ckT σ 1 x0 ((x_u4 σ x0 (x4 + (2 : Int32))).bind fun r4 => nx (r4.toInt64 &&& (4294967295 : Int64)) fun y6 => if (lg_cmp y6 (((x2 - x4) - (6 : Int32)).toInt64)) ≤ 0 then nx (x4 + ((6 : Int32) + y6.toInt32)) fun y8 => nx (x5 + (1 : Int32)) fun y9 => k23 x0 x2 x3 y8 y9 else some (-1 : Int32)) else some (-1 : Int32)
noncomputable def x_endOfAttributes_23L (fu : Nat) (σ : GS) (n : Nat) : Nat → Int32 → Int32 → Int32 → Int32 → Option Int32 := lpF (F := Nat → Int32 → Int32 → Int32 → Int32 → Option Int32) (fun _ _ _ _ _ => none) (fun k => x_endOfAttributes_23 fu σ k) n
noncomputable def x_endOfAttributes_0 (fu : Nat) (σ : GS) (x0 : Nat) (x1 : Int32) (x2 : Int32) : Option Int32 :=
  if (x1 + (2 : Int32)) ≤ x2 then ckT σ 1 x0 ((x_u2 σ x0 x1).bind fun r3 => nx (x1 + (2 : Int32)) fun y5 => x_endOfAttributes_23L fu σ fu x0 x2 r3 y5 (0 : Int32)) else some (-1 : Int32)
noncomputable def x_endOfAttributes (fu : Nat) (σ : GS) (x0 : Nat) (x1 : Int32) (x2 : Int32) : Option Int32 := x_endOfAttributes_0 fu σ x0 x1 x2
noncomputable def x_isTable_22 (σ : GS) : Option Int32 :=
  some (0 : Int32)
noncomputable def x_isTable_0 (σ : GS) (x0 : Nat) (x1 : Int32) (x2 : Int32) (x3 : Int32) : Option Int32 :=
  if x2 < (2 : Int32) then x_isTable_22 σ else ckT σ 1 x0 ((x_u2 σ x0 x1).bind fun r3 => if x2 = ((2 : Int32) + (x3 * r3)) then some (1 : Int32) else x_isTable_22 σ)
noncomputable def x_isTable (σ : GS) (x0 : Nat) (x1 : Int32) (x2 : Int32) (x3 : Int32) : Option Int32 := x_isTable_0 σ x0 x1 x2 x3
noncomputable def x_areClasses_9 (fu : Nat) (σ : GS) (k9 : Nat → Nat → Int32 → Int32 → Int32 → Option Int32) (x0 : Nat) (x1 : Nat) (x2 : Int32) (x3 : Int32) (x4 : Int32) : Option Int32 :=
  if x3 ≤ x4 then some (1 : Int32) else ckT σ 1 x0 ((x_u2 σ x0 ((x2 + (2 : Int32)) + ((2 : Int32) * x4))).bind fun r3 => (x_isTag σ x1 r3 (7 : Int32)).bind fun r5 => if r5 = 0 then some (0 : Int32) else nx (x4 + (1 : Int32)) fun y8 => k9 x0 x1 x2 x3 y8)
noncomputable def x_areClasses_9L (fu : Nat) (σ : GS) (n : Nat) : Nat → Nat → Int32 → Int32 → Int32 → Option Int32 := lpF (F := Nat → Nat → Int32 → Int32 → Int32 → Option Int32) (fun _ _ _ _ _ => none) (fun k => x_areClasses_9 fu σ k) n
noncomputable def x_areClasses_0 (fu : Nat) (σ : GS) (x0 : Nat) (x1 : Nat) (x2 : Int32) : Option Int32 :=
  ckT σ 1 x0 ((x_u2 σ x0 x2).bind fun r2 => x_areClasses_9L fu σ fu x0 x1 x2 r2 (0 : Int32))
noncomputable def x_areClasses (fu : Nat) (σ : GS) (x0 : Nat) (x1 : Nat) (x2 : Int32) : Option Int32 := x_areClasses_0 fu σ x0 x1 x2
noncomputable def x_isLoadable_44 (σ : GS) : Option Int32 :=
  some (1 : Int32)
noncomputable def x_isLoadable_48 (σ : GS) : Option Int32 :=
  some (0 : Int32)
noncomputable def x_isLoadable_32 (σ : GS) (x2 : Int32) : Option Int32 :=
  if x2 < (15 : Int32) then x_isLoadable_48 σ else if (17 : Int32) < x2 then x_isLoadable_48 σ else x_isLoadable_44 σ
noncomputable def x_isLoadable_0 (σ : GS) (x0 : Nat) (x1 : Int32) : Option Int32 :=
  if x1 ≤ 0 then some (0 : Int32) else ckT σ 2 x0 (if x1 < (gi σ x0 6) then ckK σ 101 (gr σ x0 7) fun a4 => ckIn x1 (gn σ a4) (nx (gi σ a4 x1.toNatClampNeg) fun y8 => if y8 < (3 : Int32) then x_isLoadable_32 σ y8 else if y8 ≤ (8 : Int32) then x_isLoadable_44 σ else x_isLoadable_32 σ y8) else some (0 : Int32))
noncomputable def x_isLoadable (σ : GS) (x0 : Nat) (x1 : Int32) : Option Int32 := x_isLoadable_0 σ x0 x1
noncomputable def x_boots_173 (fu : Nat) (k114 : GS → Nat → Nat → Int32 → Int32 → Int32 → Int32 → Option (Int32 × GS)) (k173 : GS → Nat → Nat → Int32 → Int32 → Int32 → Int32 → Int32 → Nat → Int32 → Option (Int32 × GS)) (σ : GS) (x0 : Nat) (x1 : Nat) (x2 : Int32) (x6 : Int32) (x7 : Int32) (x8 : Int32) (x9 : Int32) (x10 : Nat) (x11 : Int32) : Option (Int32 × GS) :=
  if x9 < x11 then ckT σ 2 x1 (ckK σ 108 (gr σ x1 21) fun a3 => ckT σ 100 x10 (ckIn x8 (gn σ a3) (nx (gpr σ a3 x8.toNatClampNeg (some x10)) fun s8 => nx (x7 + ((4 : Int32) + ((2 : Int32) * x9))) fun y9 => nx (x8 + (1 : Int32)) fun y10 => k114 s8 x0 x1 x2 x6 y9 y10))) else ckT σ 1 x0 ((x_u2 σ x0 ((x7 + (2 : Int32)) + ((2 : Int32) * x11))).bind fun r12 => ckT σ 100 x10 (ckIn x11 (gn σ x10) (nx (gpi σ x10 x11.toNatClampNeg r12) fun s16 => ckIn x11 (gn s16 x10) ((x_isLoadable s16 x1 (gi s16 x10 x11.toNatClampNeg)).bind fun r18 => if r18 = 0 then (x_wrong s16 x0 (38 : Int32) x2).bind fun r22 => ckN .boolean r22.1 (some (r22.1, r22.2)) else nx (x11 + (1 : Int32)) fun y21 => k173 s16 x0 x1 x2 x6 x7 x8 x9 x10 y21))))
noncomputable def x_boots_173L (fu : Nat) (k114 : GS → Nat → Nat → Int32 → Int32 → Int32 → Int32 → Option (Int32 × GS)) (n : Nat) : GS → Nat → Nat → Int32 → Int32 → Int32 → Int32 → Int32 → Nat → Int32 → Option (Int32 × GS) := lpF (F := GS → Nat → Nat → Int32 → Int32 → Int32 → Int32 → Int32 → Nat → Int32 → Option (Int32 × GS)) (fun _ _ _ _ _ _ _ _ _ _ => none) (fun k => x_boots_173 fu k114 k) n
noncomputable def x_boots_114 (fu : Nat) (k114 : GS → Nat → Nat → Int32 → Int32 → Int32 → Int32 → Option (Int32 × GS)) (σ : GS) (x0 : Nat) (x1 : Nat) (x2 : Int32) (x6 : Int32) (x7 : Int32) (x8 : Int32) : Option (Int32 × GS) :=
  if x6 ≤ x8 then some ((1 : Int32), σ) else ckT σ 1 x0 ((x_u2 σ x0 (x7 + (2 : Int32))).bind fun r3 => ckL (r3 + (1 : Int32)) (ckC σ (r3 + (1 : Int32)).toNatClampNeg (nx (gx σ) fun a7 => nx (gnew σ 100 (r3 + (1 : Int32)).toNatClampNeg (r3 + (1 : Int32)).toNatClampNeg) fun s8 => ckT s8 1 x0 ((x_u2 s8 x0 x7).bind fun r11 => ckIn (0 : Int32) (gn s8 a7) (nx (gpi s8 a7 (0 : Int32).toNatClampNeg r11) fun s14 => ckIn (0 : Int32) (gn s14 a7) ((x_isTag s14 x1 (gi s14 a7 (0 : Int32).toNatClampNeg) (15 : Int32)).bind fun r16 => if r16 = 0 then (x_wrong s14 x0 (38 : Int32) x2).bind fun r19 => ckN .boolean r19.1 (some (r19.1, r19.2)) else x_boots_173L fu k114 fu s14 x0 x1 x2 x6 x7 x8 r3 a7 (1 : Int32)))))))
noncomputable def x_boots_114L (fu : Nat) (n : Nat) : GS → Nat → Nat → Int32 → Int32 → Int32 → Int32 → Option (Int32 × GS) := lpF (F := GS → Nat → Nat → Int32 → Int32 → Int32 → Int32 → Option (Int32 × GS)) (fun _ _ _ _ _ _ _ => none) (fun k => x_boots_114 fu k) n
noncomputable def x_boots_35 (fu : Nat) (k35 : GS → Nat → Nat → Int32 → Int32 → Int32 → Int32 → Int32 → Int32 → Option (Int32 × GS)) (σ : GS) (x0 : Nat) (x1 : Nat) (x2 : Int32) (x3 : Int32) (x5 : Int32) (x6 : Int32) (x7 : Int32) (x8 : Int32) : Option (Int32 × GS) :=
  if x6 ≤ x8 then if x7 = x5 then ckL x6 (ckC σ x6.toNatClampNeg (nx (gx σ) fun a5 => nx (gnew σ 108 x6.toNatClampNeg x6.toNatClampNeg) fun s6 => ckT s6 2 x1 (nx (gpr s6 x1 21 (some a5)) fun s9 => nx (x3 + (2 : Int32)) fun y10 => x_boots_114L fu fu s9 x0 x1 x2 x6 y10 (0 : Int32)))) else ckT σ 1 x0 ((x_wrong σ x0 (30 : Int32) x2).bind fun r12 => ckN .boolean r12.1 (some (r12.1, r12.2))) else if (x7 + (4 : Int32)) ≤ x5 then ckT σ 1 x0 ((x_u2 σ x0 (x7 + (2 : Int32))).bind fun r17 => nx (x7 + ((4 : Int32) + ((2 : Int32) * r17))) fun y19 => nx (x8 + (1 : Int32)) fun y20 => k35 σ x0 x1 x2 x3 x5 x6 y19 y20) else ckT σ 1 x0 ((x_wrong σ x0 (30 : Int32) x2).bind fun r22 => ckN .boolean r22.1 (some (r22.1, r22.2)))
noncomputable def x_boots_35L (fu : Nat) (n : Nat) : GS → Nat → Nat → Int32 → Int32 → Int32 → Int32 → Int32 → Int32 → Option (Int32 × GS) := lpF (F := GS → Nat → Nat → Int32 → Int32 → Int32 → Int32 → Int32 → Int32 → Option (Int32 × GS)) (fun _ _ _ _ _ _ _ _ _ => none) (fun k => x_boots_35 fu k) n
noncomputable def x_boots_0 (fu : Nat) (σ : GS) (x0 : Nat) (x1 : Nat) (x2 : Int32) (x3 : Int32) (x4 : Int32) : Option (Int32 × GS) :=
  nx (x3 + x4) fun y1 => if (2 : Int32) ≤ x4 then ckT σ 1 x0 ((x_u2 σ x0 x3).bind fun r4 => nx (x3 + (2 : Int32)) fun y6 => x_boots_35L fu fu σ x0 x1 x2 x3 y1 r4 y6 (0 : Int32)) else ckT σ 1 x0 ((x_wrong σ x0 (30 : Int32) x2).bind fun r8 => ckN .boolean r8.1 (some (r8.1, r8.2)))
noncomputable def x_boots (fu : Nat) (σ : GS) (x0 : Nat) (x1 : Nat) (x2 : Int32) (x3 : Int32) (x4 : Int32) : Option (Int32 × GS) := x_boots_0 fu σ x0 x1 x2 x3 x4
noncomputable def x_record_180 (fu : Nat) (σ : GS) (x0 : Nat) (x2 : Int32) : Option (Int32 × GS) :=
  ckT σ 1 x0 ((x_wrong σ x0 (37 : Int32) x2).bind fun r2 => ckN .boolean r2.1 (some (r2.1, r2.2)))
noncomputable def x_record_204 (fu : Nat) (k114 : GS → Nat → Nat → Int32 → Int32 → Int32 → Int32 → Option (Int32 × GS)) (k204 : GS → Nat → Nat → Int32 → Int32 → Int32 → Int32 → Int32 → Int32 → Option (Int32 × GS)) (σ : GS) (x0 : Nat) (x1 : Nat) (x2 : Int32) (x6 : Int32) (x7 : Int32) (x8 : Int32) (x11 : Int32) (x12 : Int32) : Option (Int32 × GS) :=
  if x11 ≤ x12 then nx (x8 + (1 : Int32)) fun y2 => k114 σ x0 x1 x2 x6 x7 y2 else ckT σ 1 x0 ((x_u2 σ x0 x7).bind fun r4 => (x_textAt σ x1 r4).bind fun r6 => if r6 = none then (x_wrong σ x0 (28 : Int32) x7).bind fun r13 => ckN .boolean r13.1 (some (r13.1, r13.2)) else (x_u4 σ x0 (x7 + (2 : Int32))).bind fun r9 => nx (x7 + ((6 : Int32) + r9)) fun y11 => nx (x12 + (1 : Int32)) fun y12 => k204 σ x0 x1 x2 x6 y11 x8 x11 y12)
noncomputable def x_record_204L (fu : Nat) (k114 : GS → Nat → Nat → Int32 → Int32 → Int32 → Int32 → Option (Int32 × GS)) (n : Nat) : GS → Nat → Nat → Int32 → Int32 → Int32 → Int32 → Int32 → Int32 → Option (Int32 × GS) := lpF (F := GS → Nat → Nat → Int32 → Int32 → Int32 → Int32 → Int32 → Int32 → Option (Int32 × GS)) (fun _ _ _ _ _ _ _ _ _ => none) (fun k => x_record_204 fu k114 k) n
noncomputable def x_record_114 (fu : Nat) (k114 : GS → Nat → Nat → Int32 → Int32 → Int32 → Int32 → Option (Int32 × GS)) (σ : GS) (x0 : Nat) (x1 : Nat) (x2 : Int32) (x6 : Int32) (x7 : Int32) (x8 : Int32) : Option (Int32 × GS) :=
  if x6 ≤ x8 then ckT σ 2 x1 (nx (gpi σ x1 19 x6) fun s3 => some ((1 : Int32), s3)) else ckT σ 1 x0 ((x_u2 σ x0 x7).bind fun r5 => (x_textAt σ x1 r5).bind fun r7 => (x_u2 σ x0 (x7 + (2 : Int32))).bind fun r9 => (x_textAt σ x1 r9).bind fun r11 => if r7 = none then x_record_180 fu σ x0 x2 else if r11 = none then x_record_180 fu σ x0 x2 else ckK σ 6 r7 fun a15 => (x_J2_length σ a15).bind fun r18 => (x_isPlainName fu σ a15 (0 : Int32) r18 (0 : Int32)).bind fun r20 => if r20 = 0 then x_record_180 fu σ x0 x2 else ckR r11 fun a23 => (x_isFieldType fu σ a23).bind fun r26 => if r26 = 0 then x_record_180 fu σ x0 x2 else (x_u2 σ x0 (x7 + (4 : Int32))).bind fun r29 => nx (x7 + (6 : Int32)) fun y31 => x_record_204L fu k114 fu σ x0 x1 x2 x6 y31 x8 r29 (0 : Int32))
noncomputable def x_record_114L (fu : Nat) (n : Nat) : GS → Nat → Nat → Int32 → Int32 → Int32 → Int32 → Option (Int32 × GS) := lpF (F := GS → Nat → Nat → Int32 → Int32 → Int32 → Int32 → Option (Int32 × GS)) (fun _ _ _ _ _ _ _ => none) (fun k => x_record_114 fu k) n
noncomputable def x_record_35 (fu : Nat) (k35 : GS → Nat → Nat → Int32 → Int32 → Int32 → Int32 → Int32 → Int32 → Option (Int32 × GS)) (σ : GS) (x0 : Nat) (x1 : Nat) (x2 : Int32) (x3 : Int32) (x5 : Int32) (x6 : Int32) (x7 : Int32) (x8 : Int32) : Option (Int32 × GS) :=
  if x6 ≤ x8 then if x7 = x5 then nx (x3 + (2 : Int32)) fun y3 => x_record_114L fu fu σ x0 x1 x2 x6 y3 (0 : Int32) else ckT σ 1 x0 ((x_wrong σ x0 (30 : Int32) x2).bind fun r5 => ckN .boolean r5.1 (some (r5.1, r5.2))) else if (x7 + (6 : Int32)) ≤ x5 then ckT σ 1 x0 ((x_endOfAttributes fu σ x0 (x7 + (4 : Int32)) x5).bind fun r10 => if 0 ≤ r10 then nx (x8 + (1 : Int32)) fun y13 => k35 σ x0 x1 x2 x3 x5 x6 r10 y13 else (x_wrong σ x0 (30 : Int32) x2).bind fun r14 => ckN .boolean r14.1 (some (r14.1, r14.2))) else ckT σ 1 x0 ((x_wrong σ x0 (30 : Int32) x2).bind fun r18 => ckN .boolean r18.1 (some (r18.1, r18.2)))
noncomputable def x_record_35L (fu : Nat) (n : Nat) : GS → Nat → Nat → Int32 → Int32 → Int32 → Int32 → Int32 → Int32 → Option (Int32 × GS) := lpF (F := GS → Nat → Nat → Int32 → Int32 → Int32 → Int32 → Int32 → Int32 → Option (Int32 × GS)) (fun _ _ _ _ _ _ _ _ _ => none) (fun k => x_record_35 fu k) n
noncomputable def x_record_0 (fu : Nat) (σ : GS) (x0 : Nat) (x1 : Nat) (x2 : Int32) (x3 : Int32) (x4 : Int32) : Option (Int32 × GS) :=
  nx (x3 + x4) fun y1 => if (2 : Int32) ≤ x4 then ckT σ 1 x0 ((x_u2 σ x0 x3).bind fun r4 => nx (x3 + (2 : Int32)) fun y6 => x_record_35L fu fu σ x0 x1 x2 x3 y1 r4 y6 (0 : Int32)) else ckT σ 1 x0 ((x_wrong σ x0 (30 : Int32) x2).bind fun r8 => ckN .boolean r8.1 (some (r8.1, r8.2)))
noncomputable def x_record (fu : Nat) (σ : GS) (x0 : Nat) (x1 : Nat) (x2 : Int32) (x3 : Int32) (x4 : Int32) : Option (Int32 × GS) := x_record_0 fu σ x0 x1 x2 x3 x4
noncomputable def x_X3_isFinal_0 (σ : GS) (x0 : Nat) : Option Int32 :=
  ckT σ 2 x0 (if ((gi σ x0 0) &&& (16 : Int32)) = 0 then some (0 : Int32) else some (1 : Int32))
noncomputable def x_X3_isFinal (σ : GS) (x0 : Nat) : Option Int32 := x_X3_isFinal_0 σ x0
noncomputable def x_attribute_b_514 (fu : Nat) (σ : GS) (x0 : Nat) (x3 : Int32) : Option (Int32 × GS) :=
  ckT σ 1 x0 ((x_wrong σ x0 (36 : Int32) x3).bind fun r2 => ckN .boolean r2.1 (some (r2.1, r2.2)))
noncomputable def x_attribute_b_109 (fu : Nat) (σ : GS) : Option (Int32 × GS) :=
  some ((1 : Int32), σ)
noncomputable def x_attribute_b_179 (fu : Nat) (σ : GS) : Option (Int32 × GS) :=
  some ((1 : Int32), σ)
noncomputable def x_attribute_b_319 (fu : Nat) (k221 : GS → Nat → Nat → Int32 → Int32 → Int32 → Option (Int32 × GS)) (σ : GS) (x0 : Nat) (x1 : Nat) (x3 : Int32) (x4 : Int32) (x8 : Int32) (t0 : Int32) : Option (Int32 × GS) :=
  if t0 = 0 then ckT σ 1 x0 ((x_wrong σ x0 (33 : Int32) x3).bind fun r4 => ckN .boolean r4.1 (some (r4.1, r4.2))) else nx (x8 + (1 : Int32)) fun y2 => k221 σ x0 x1 x3 x4 y2
noncomputable def x_attribute_b_314 (fu : Nat) (k221 : GS → Nat → Nat → Int32 → Int32 → Int32 → Option (Int32 × GS)) (σ : GS) (x0 : Nat) (x1 : Nat) (x3 : Int32) (x4 : Int32) (x8 : Int32) : Option (Int32 × GS) :=
  x_attribute_b_319 fu k221 σ x0 x1 x3 x4 x8 (1 : Int32)
noncomputable def x_attribute_b_318 (fu : Nat) (k221 : GS → Nat → Nat → Int32 → Int32 → Int32 → Option (Int32 × GS)) (σ : GS) (x0 : Nat) (x1 : Nat) (x3 : Int32) (x4 : Int32) (x8 : Int32) : Option (Int32 × GS) :=
  x_attribute_b_319 fu k221 σ x0 x1 x3 x4 x8 (0 : Int32)
noncomputable def x_attribute_b_287 (fu : Nat) (k221 : GS → Nat → Nat → Int32 → Int32 → Int32 → Option (Int32 × GS)) (σ : GS) (x0 : Nat) (x1 : Nat) (x3 : Int32) (x4 : Int32) (x8 : Int32) (x9 : Int32) : Option (Int32 × GS) :=
  ckT σ 1 x0 ((x_u2 σ x0 (x9 + (4 : Int32))).bind fun r2 => if r2 = 0 then x_attribute_b_314 fu k221 σ x0 x1 x3 x4 x8 else (x_u2 σ x0 (x9 + (4 : Int32))).bind fun r5 => (x_isTag σ x1 r5 (1 : Int32)).bind fun r7 => if r7 = 0 then x_attribute_b_318 fu k221 σ x0 x1 x3 x4 x8 else x_attribute_b_314 fu k221 σ x0 x1 x3 x4 x8)
noncomputable def x_attribute_b_221 (fu : Nat) (k221 : GS → Nat → Nat → Int32 → Int32 → Int32 → Option (Int32 × GS)) (σ : GS) (x0 : Nat) (x1 : Nat) (x3 : Int32) (x4 : Int32) (x8 : Int32) : Option (Int32 × GS) :=
  ckT σ 1 x0 ((x_u2 σ x0 x4).bind fun r2 => if r2 ≤ x8 then some ((1 : Int32), σ) else nx ((x4 + (2 : Int32)) + ((8 : Int32) * x8)) fun y5 => (x_u2 σ x0 y5).bind fun r6 => (x_isTag σ x1 r6 (7 : Int32)).bind fun r8 => if r8 = 0 then x_attribute_b_318 fu k221 σ x0 x1 x3 x4 x8 else (x_u2 σ x0 (y5 + (2 : Int32))).bind fun r11 => if r11 = 0 then x_attribute_b_287 fu k221 σ x0 x1 x3 x4 x8 y5 else (x_u2 σ x0 (y5 + (2 : Int32))).bind fun r14 => (x_isTag σ x1 r14 (7 : Int32)).bind fun r16 => if r16 = 0 then x_attribute_b_318 fu k221 σ x0 x1 x3 x4 x8 else x_attribute_b_287 fu k221 σ x0 x1 x3 x4 x8 y5)
noncomputable def x_attribute_b_221L (fu : Nat) (n : Nat) : GS → Nat → Nat → Int32 → Int32 → Int32 → Option (Int32 × GS) := lpF (F := GS → Nat → Nat → Int32 → Int32 → Int32 → Option (Int32 × GS)) (fun _ _ _ _ _ _ => none) (fun k => x_attribute_b_221 fu k) n
noncomputable def x_attribute_b_389 (fu : Nat) (σ : GS) (x0 : Nat) (x3 : Int32) : Option (Int32 × GS) :=
  ckT σ 1 x0 ((x_wrong σ x0 (34 : Int32) x3).bind fun r2 => ckN .boolean r2.1 (some (r2.1, r2.2)))
noncomputable def x_attribute_b_441 (fu : Nat) (σ : GS) (x0 : Nat) (x3 : Int32) : Option (Int32 × GS) :=
  ckT σ 1 x0 ((x_wrong σ x0 (35 : Int32) x3).bind fun r2 => ckN .boolean r2.1 (some (r2.1, r2.2)))
noncomputable def x_attribute_b_0 (fu : Nat) (σ : GS) (x0 : Nat) (x1 : Nat) (x2 : Int32) (x3 : Int32) (x4 : Int32) (x5 : Int32) (x6 : Option Nat) (x7 : Option Nat) : Option (Int32 × GS) :=
  if x2 = (1 : Int32) then if x5 = (2 : Int32) then ckK σ 3 x6 fun a3 => if ((gi σ a3 4) &&& (8 : Int32)) = 0 then some ((1 : Int32), σ) else ckT σ 1 x0 ((x_u2 σ x0 x4).bind fun r8 => nx (gpi σ a3 5 r8) fun s10 => (x_isConstant fu s10 x1 a3).bind fun r11 => if r11 = 0 then (x_wrong s10 x0 (31 : Int32) x3).bind fun r14 => if r14.1 = 0 then some ((0 : Int32), r14.2) else x_attribute_b_109 fu r14.2 else x_attribute_b_109 fu s10) else ckT σ 1 x0 ((x_wrong σ x0 (30 : Int32) x3).bind fun r18 => ckN .boolean r18.1 (some (r18.1, r18.2))) else if x2 = (2 : Int32) then (none : Option (Int32 × GS)) else if x2 = (3 : Int32) then ckT σ 1 x0 ((x_isTable σ x0 x4 x5 (2 : Int32)).bind fun r24 => if r24 = 0 then (x_wrong σ x0 (30 : Int32) x3).bind fun r39 => ckN .boolean r39.1 (some (r39.1, r39.2)) else (x_u2 σ x0 x4).bind fun r27 => ckK σ 4 x7 fun a29 => nx (gpi σ a29 7 r27) fun s32 => (x_areClasses fu s32 x0 x1 x4).bind fun r33 => if r33 = 0 then (x_wrong s32 x0 (32 : Int32) x3).bind fun r36 => if r36.1 = 0 then some ((0 : Int32), r36.2) else x_attribute_b_179 fu r36.2 else x_attribute_b_179 fu s32) else if x2 = (4 : Int32) then some ((1 : Int32), σ) else if x2 = (5 : Int32) then ckT σ 1 x0 ((x_isTable σ x0 x4 x5 (8 : Int32)).bind fun r45 => if r45 = 0 then (x_wrong σ x0 (30 : Int32) x3).bind fun r52 => ckN .boolean r52.1 (some (r52.1, r52.2)) else (x_u2 σ x0 x4).bind fun r48 => ckT σ 2 x1 (nx (gpi σ x1 18 r48) fun s51 => x_attribute_b_221L fu fu s51 x0 x1 x3 x4 (0 : Int32))) else if x2 = (6 : Int32) then ckT σ 1 x0 ((x_boots fu σ x0 x1 x3 x4 x5).bind fun r57 => ckN .boolean r57.1 (some (r57.1, r57.2))) else if x2 = (7 : Int32) then if x5 = (2 : Int32) then ckT σ 1 x0 ((x_u2 σ x0 x4).bind fun r63 => (x_isTag σ x1 r63 (7 : Int32)).bind fun r65 => if r65 = 0 then x_attribute_b_389 fu σ x0 x3 else ckT σ 2 x1 (if (gi σ x1 15) = 0 then nx (gpi σ x1 14 (1 : Int32)) fun s70 => some ((1 : Int32), s70) else x_attribute_b_389 fu σ x0 x3)) else ckT σ 1 x0 ((x_wrong σ x0 (30 : Int32) x3).bind fun r72 => ckN .boolean r72.1 (some (r72.1, r72.2))) else if x2 = (8 : Int32) then ckT σ 1 x0 ((x_isTable σ x0 x4 x5 (2 : Int32)).bind fun r77 => if r77 = 0 then (x_wrong σ x0 (30 : Int32) x3).bind fun r89 => ckN .boolean r89.1 (some (r89.1, r89.2)) else (x_areClasses fu σ x0 x1 x4).bind fun r80 => if r80 = 0 then x_attribute_b_441 fu σ x0 x3 else ckT σ 2 x1 (if (gi σ x1 14) = 0 then nx (gpi σ x1 15 (1 : Int32)) fun s85 => (x_u2 s85 x0 x4).bind fun r86 => nx (gpi s85 x1 16 r86) fun s88 => some ((1 : Int32), s88) else x_attribute_b_441 fu σ x0 x3)) else if x2 = (9 : Int32) then ckT σ 1 x0 ((x_record fu σ x0 x1 x3 x4 x5).bind fun r94 => ckN .boolean r94.1 (some (r94.1, r94.2))) else ckT σ 1 x0 ((x_isTable σ x0 x4 x5 (2 : Int32)).bind fun r98 => if r98 = 0 then (x_wrong σ x0 (30 : Int32) x3).bind fun r111 => ckN .boolean r111.1 (some (r111.1, r111.2)) else (x_areClasses fu σ x0 x1 x4).bind fun r101 => if r101 = 0 then x_attribute_b_514 fu σ x0 x3 else ckT σ 2 x1 ((x_X3_isFinal σ x1).bind fun r105 => if r105 = 0 then (x_u2 σ x0 x4).bind fun r108 => nx (gpi σ x1 17 r108) fun s110 => some ((1 : Int32), s110) else x_attribute_b_514 fu σ x0 x3))
noncomputable def x_attribute_b (fu : Nat) (σ : GS) (x0 : Nat) (x1 : Nat) (x2 : Int32) (x3 : Int32) (x4 : Int32) (x5 : Int32) (x6 : Option Nat) (x7 : Option Nat) : Option (Int32 × GS) := x_attribute_b_0 fu σ x0 x1 x2 x3 x4 x5 x6 x7
noncomputable def x_attributes_b_193 (fu : Nat) (k12 : GS → Nat → Nat → Int32 → Option Nat → Option Nat → Int32 → Int32 → Int32 → Option (Int32 × GS)) (σ : GS) (x0 : Nat) (x1 : Nat) (x2 : Int32) (x3 : Option Nat) (x4 : Option Nat) (x5 : Int32) (x6 : Int32) (x7 : Int32) (x8 : Int32) (x10 : Int32) : Option (Int32 × GS) :=
  ckT σ 1 x0 (nx (gpi σ x0 6 ((x8 + (6 : Int32)) + x10)) fun s2 => nx (x7 + (1 : Int32)) fun y3 => k12 s2 x0 x1 x2 x3 x4 x5 x6 y3)
noncomputable def x_attributes_b_164 (fu : Nat) (k12 : GS → Nat → Nat → Int32 → Option Nat → Option Nat → Int32 → Int32 → Int32 → Option (Int32 × GS)) (σ : GS) (x0 : Nat) (x1 : Nat) (x2 : Int32) (x3 : Option Nat) (x4 : Option Nat) (x5 : Int32) (x6 : Int32) (x7 : Int32) (x8 : Int32) (x10 : Int32) (x11 : Int32) : Option (Int32 × GS) :=
  if x11 ≤ 0 then x_attributes_b_193 fu k12 σ x0 x1 x2 x3 x4 x5 x6 x7 x8 x10 else ckT σ 1 x0 ((x_attribute_b fu σ x0 x1 x11 x8 (x8 + (6 : Int32)) x10 x3 x4).bind fun r3 => if r3.1 = 0 then some ((0 : Int32), r3.2) else x_attributes_b_193 fu k12 r3.2 x0 x1 x2 x3 x4 x5 x6 x7 x8 x10)
noncomputable def x_attributes_b_144 (fu : Nat) (k12 : GS → Nat → Nat → Int32 → Option Nat → Option Nat → Int32 → Int32 → Int32 → Option (Int32 × GS)) (σ : GS) (x0 : Nat) (x1 : Nat) (x2 : Int32) (x3 : Option Nat) (x4 : Option Nat) (x5 : Int32) (x6 : Int32) (x7 : Int32) (x8 : Int32) (x10 : Int32) (x11 : Int32) : Option (Int32 × GS) :=
  if x11 ≤ 0 then x_attributes_b_164 fu k12 σ x0 x1 x2 x3 x4 x5 x6 x7 x8 x10 x11 else if x2 = (3 : Int32) then ckT σ 2 x1 (nx (gpi σ x1 20 ((gi σ x1 20) + (1 : Int32))) fun s4 => x_attributes_b_164 fu k12 s4 x0 x1 x2 x3 x4 x5 x6 x7 x8 x10 x11) else x_attributes_b_164 fu k12 σ x0 x1 x2 x3 x4 x5 x6 x7 x8 x10 x11
noncomputable def x_attributes_b_123 (fu : Nat) (k12 : GS → Nat → Nat → Int32 → Option Nat → Option Nat → Int32 → Int32 → Int32 → Option (Int32 × GS)) (σ : GS) (x0 : Nat) (x1 : Nat) (x2 : Int32) (x3 : Option Nat) (x4 : Option Nat) (x5 : Int32) (x6 : Int32) (x7 : Int32) (x8 : Int32) (x10 : Int32) (x11 : Int32) : Option (Int32 × GS) :=
  if x11 ≤ 0 then x_attributes_b_144 fu k12 σ x0 x1 x2 x3 x4 x5 x6 x7 x8 x10 x11 else if x2 = (1 : Int32) then ckK σ 4 x4 fun a3 => nx (gpi σ a3 6 ((gi σ a3 6) + (1 : Int32))) fun s6 => x_attributes_b_144 fu k12 s6 x0 x1 x2 x3 x4 x5 x6 x7 x8 x10 x11 else x_attributes_b_144 fu k12 σ x0 x1 x2 x3 x4 x5 x6 x7 x8 x10 x11
noncomputable def x_attributes_b_95 (fu : Nat) (k12 : GS → Nat → Nat → Int32 → Option Nat → Option Nat → Int32 → Int32 → Int32 → Option (Int32 × GS)) (σ : GS) (x0 : Nat) (x1 : Nat) (x2 : Int32) (x3 : Option Nat) (x4 : Option Nat) (x5 : Int32) (x6 : Int32) (x7 : Int32) (x8 : Int32) (x10 : Int32) (x11 : Int32) : Option (Int32 × GS) :=
  nx (x6 ||| ((1 : Int32) <<< (x11 &&& 31))) fun y1 => if x11 ≤ 0 then x_attributes_b_123 fu k12 σ x0 x1 x2 x3 x4 x5 y1 x7 x8 x10 x11 else if x2 = 0 then ckK σ 3 x3 fun a4 => nx (gpi σ a4 7 ((gi σ a4 7) + (1 : Int32))) fun s7 => x_attributes_b_123 fu k12 s7 x0 x1 x2 x3 x4 x5 y1 x7 x8 x10 x11 else x_attributes_b_123 fu k12 σ x0 x1 x2 x3 x4 x5 y1 x7 x8 x10 x11
noncomputable def x_attributes_b_12 (fu : Nat) (k12 : GS → Nat → Nat → Int32 → Option Nat → Option Nat → Int32 → Int32 → Int32 → Option (Int32 × GS)) (σ : GS) (x0 : Nat) (x1 : Nat) (x2 : Int32) (x3 : Option Nat) (x4 : Option Nat) (x5 : Int32) (x6 : Int32) (x7 : Int32) : Option (Int32 × GS) :=
  if x5 ≤ x7 then some ((1 : Int32), σ) else ckT σ 1 x0 (nx (gi σ x0 6) fun y3 => (x_u2 σ x0 y3).bind fun r4 => (x_textAt σ x1 r4).bind fun r6 => if r6 = none then (x_wrong σ x0 (28 : Int32) y3).bind fun r21 => ckN .boolean r21.1 (some (r21.1, r21.2)) else (x_u4 σ x0 (y3 + (2 : Int32))).bind fun r9 => ckR r6 fun a11 => (x_known fu σ x1 x2 a11).bind fun r14 => if r14 ≤ 0 then x_attributes_b_95 fu k12 σ x0 x1 x2 x3 x4 x5 x6 x7 y3 r9 r14 else if ((x6 >>> (r14 &&& 31)) &&& (1 : Int32)) = (1 : Int32) then (x_wrong σ x0 (29 : Int32) y3).bind fun r18 => ckN .boolean r18.1 (some (r18.1, r18.2)) else x_attributes_b_95 fu k12 σ x0 x1 x2 x3 x4 x5 x6 x7 y3 r9 r14)
noncomputable def x_attributes_b_12L (fu : Nat) (n : Nat) : GS → Nat → Nat → Int32 → Option Nat → Option Nat → Int32 → Int32 → Int32 → Option (Int32 × GS) := lpF (F := GS → Nat → Nat → Int32 → Option Nat → Option Nat → Int32 → Int32 → Int32 → Option (Int32 × GS)) (fun _ _ _ _ _ _ _ _ _ => none) (fun k => x_attributes_b_12 fu k) n
noncomputable def x_attributes_b_0 (fu : Nat) (σ : GS) (x0 : Nat) (x1 : Nat) (x2 : Int32) (x3 : Option Nat) (x4 : Option Nat) : Option (Int32 × GS) :=
  ckT σ 1 x0 ((x_next2 σ x0).bind fun r2 => x_attributes_b_12L fu fu r2.2 x0 x1 x2 x3 x4 r2.1 (0 : Int32) (0 : Int32))
noncomputable def x_attributes_b (fu : Nat) (σ : GS) (x0 : Nat) (x1 : Nat) (x2 : Int32) (x3 : Option Nat) (x4 : Option Nat) : Option (Int32 × GS) := x_attributes_b_0 fu σ x0 x1 x2 x3 x4
noncomputable def x_code_125 (fu : Nat) (σ : GS) (x0 : Nat) (x3 : Int32) : Option (Int32 × GS) :=
  ckT σ 1 x0 ((x_wrong σ x0 (30 : Int32) x3).bind fun r2 => ckN .boolean r2.1 (some (r2.1, r2.2)))
noncomputable def x_code_149 (fu : Nat) (σ : GS) (x0 : Nat) (x3 : Int32) : Option (Int32 × GS) :=
  ckT σ 1 x0 ((x_wrong σ x0 (41 : Int32) x3).bind fun r2 => ckN .boolean r2.1 (some (r2.1, r2.2)))
noncomputable def x_code_409 (fu : Nat) (k263 : GS → Nat → Nat → Nat → Int32 → Int64 → Int32 → Int32 → Int32 → Int32 → Option (Int32 × GS)) (σ : GS) (x0 : Nat) (x1 : Nat) (x2 : Nat) (x3 : Int32) (x7 : Int64) (x9 : Int32) (x10 : Int32) (x11 : Int32) (x12 : Int32) (t0 : Int32) : Option (Int32 × GS) :=
  if t0 = 0 then ckT σ 1 x0 ((x_wrong σ x0 (43 : Int32) x3).bind fun r4 => ckN .boolean r4.1 (some (r4.1, r4.2))) else nx (x12 + (1 : Int32)) fun y2 => k263 σ x0 x1 x2 x3 x7 x9 x10 x11 y2
noncomputable def x_code_404 (fu : Nat) (k263 : GS → Nat → Nat → Nat → Int32 → Int64 → Int32 → Int32 → Int32 → Int32 → Option (Int32 × GS)) (σ : GS) (x0 : Nat) (x1 : Nat) (x2 : Nat) (x3 : Int32) (x7 : Int64) (x9 : Int32) (x10 : Int32) (x11 : Int32) (x12 : Int32) : Option (Int32 × GS) :=
  x_code_409 fu k263 σ x0 x1 x2 x3 x7 x9 x10 x11 x12 (1 : Int32)
noncomputable def x_code_408 (fu : Nat) (k263 : GS → Nat → Nat → Nat → Int32 → Int64 → Int32 → Int32 → Int32 → Int32 → Option (Int32 × GS)) (σ : GS) (x0 : Nat) (x1 : Nat) (x2 : Nat) (x3 : Int32) (x7 : Int64) (x9 : Int32) (x10 : Int32) (x11 : Int32) (x12 : Int32) : Option (Int32 × GS) :=
  x_code_409 fu k263 σ x0 x1 x2 x3 x7 x9 x10 x11 x12 (0 : Int32)
noncomputable def x_code_273 (fu : Nat) (k263 : GS → Nat → Nat → Nat → Int32 → Int64 → Int32 → Int32 → Int32 → Int32 → Option (Int32 × GS)) (k273 : GS → Nat → Nat → Nat → Int32 → Int64 → Int32 → Int32 → Int32 → Int32 → Int32 → Option (Int32 × GS)) (σ : GS) (x0 : Nat) (x1 : Nat) (x2 : Nat) (x3 : Int32) (x7 : Int64) (x9 : Int32) (x10 : Int32) (x11 : Int32) (x12 : Int32) (x13 : Int32) : Option (Int32 × GS) :=
  if (4 : Int32) ≤ x13 then ckT σ 4 x2 (ckK σ 100 (gr σ x2 12) fun a3 => ckIn (((4 : Int32) * x12) + (3 : Int32)) (gn σ a3) (nx (gi σ a3 (((4 : Int32) * x12) + (3 : Int32)).toNatClampNeg) fun y7 => ckIn ((4 : Int32) * x12) (gn σ a3) (ckIn (((4 : Int32) * x12) + (1 : Int32)) (gn σ a3) (if (gi σ a3 (((4 : Int32) * x12) + (1 : Int32)).toNatClampNeg) ≤ (gi σ a3 ((4 : Int32) * x12).toNatClampNeg) then x_code_408 fu k263 σ x0 x1 x2 x3 x7 x9 x10 x11 x12 else ckIn (((4 : Int32) * x12) + (1 : Int32)) (gn σ a3) (if 0 < (lg_cmp ((gi σ a3 (((4 : Int32) * x12) + (1 : Int32)).toNatClampNeg).toInt64) x7) then x_code_408 fu k263 σ x0 x1 x2 x3 x7 x9 x10 x11 x12 else ckIn (((4 : Int32) * x12) + (2 : Int32)) (gn σ a3) (if 0 ≤ (lg_cmp ((gi σ a3 (((4 : Int32) * x12) + (2 : Int32)).toNatClampNeg).toInt64) x7) then x_code_408 fu k263 σ x0 x1 x2 x3 x7 x9 x10 x11 x12 else if y7 = 0 then x_code_404 fu k263 σ x0 x1 x2 x3 x7 x9 x10 x11 x12 else (x_isTag σ x1 y7 (7 : Int32)).bind fun r16 => if r16 = 0 then x_code_408 fu k263 σ x0 x1 x2 x3 x7 x9 x10 x11 x12 else x_code_404 fu k263 σ x0 x1 x2 x3 x7 x9 x10 x11 x12)))))) else ckT σ 4 x2 (ckT σ 1 x0 ((x_u2 σ x0 (((x9 + (2 : Int32)) + ((8 : Int32) * x12)) + ((2 : Int32) * x13))).bind fun r21 => ckK σ 100 (gr σ x2 12) fun a23 => ckIn (((4 : Int32) * x12) + x13) (gn σ a23) (nx (gpi σ a23 (((4 : Int32) * x12) + x13).toNatClampNeg r21) fun s27 => nx (x13 + (1 : Int32)) fun y28 => k273 s27 x0 x1 x2 x3 x7 x9 x10 x11 x12 y28)))
noncomputable def x_code_273L (fu : Nat) (k263 : GS → Nat → Nat → Nat → Int32 → Int64 → Int32 → Int32 → Int32 → Int32 → Option (Int32 × GS)) (n : Nat) : GS → Nat → Nat → Nat → Int32 → Int64 → Int32 → Int32 → Int32 → Int32 → Int32 → Option (Int32 × GS) := lpF (F := GS → Nat → Nat → Nat → Int32 → Int64 → Int32 → Int32 → Int32 → Int32 → Int32 → Option (Int32 × GS)) (fun _ _ _ _ _ _ _ _ _ _ _ => none) (fun k => x_code_273 fu k263 k) n
noncomputable def x_code_263 (fu : Nat) (k263 : GS → Nat → Nat → Nat → Int32 → Int64 → Int32 → Int32 → Int32 → Int32 → Option (Int32 × GS)) (σ : GS) (x0 : Nat) (x1 : Nat) (x2 : Nat) (x3 : Int32) (x7 : Int64) (x9 : Int32) (x10 : Int32) (x11 : Int32) (x12 : Int32) : Option (Int32 × GS) :=
  if x10 ≤ x12 then ckT σ 1 x0 (nx (gpi σ x0 6 x11) fun s3 => (x_attributes_b fu s3 x0 x1 (2 : Int32) none (some x2)).bind fun r4 => ckN .boolean r4.1 (some (r4.1, r4.2))) else x_code_273L fu k263 fu σ x0 x1 x2 x3 x7 x9 x10 x11 x12 (0 : Int32)
noncomputable def x_code_263L (fu : Nat) (n : Nat) : GS → Nat → Nat → Nat → Int32 → Int64 → Int32 → Int32 → Int32 → Int32 → Option (Int32 × GS) := lpF (F := GS → Nat → Nat → Nat → Int32 → Int64 → Int32 → Int32 → Int32 → Int32 → Option (Int32 × GS)) (fun _ _ _ _ _ _ _ _ _ _ => none) (fun k => x_code_263 fu k) n
noncomputable def x_code_215 (fu : Nat) (k215 : GS → Nat → Nat → Nat → Int32 → Int32 → Int64 → Int32 → Int32 → Int32 → Int32 → Option (Int32 × GS)) (σ : GS) (x0 : Nat) (x1 : Nat) (x2 : Nat) (x3 : Int32) (x4 : Int32) (x7 : Int64) (x9 : Int32) (x10 : Int32) (x11 : Int32) (x12 : Int32) : Option (Int32 × GS) :=
  if 0 ≤ (lg_cmp x12.toInt64 x7) then ckL ((4 : Int32) * x10) (ckC σ ((4 : Int32) * x10).toNatClampNeg (nx (gx σ) fun a4 => nx (gnew σ 100 ((4 : Int32) * x10).toNatClampNeg ((4 : Int32) * x10).toNatClampNeg) fun s5 => ckT s5 4 x2 (nx (gpr s5 x2 12 (some a4)) fun s8 => x_code_263L fu fu s8 x0 x1 x2 x3 x7 x9 x10 x11 (0 : Int32)))) else ckT σ 4 x2 (ckT σ 1 x0 (ckK σ 101 (gr σ x0 2) fun a11 => ckIn ((x4 + (8 : Int32)) + x12) (gn σ a11) (ckK σ 101 (gr σ x2 11) fun a15 => ckW σ a15 (ckIn x12 (gn σ a15) (nx (gpi σ a15 x12.toNatClampNeg (gi σ a11 ((x4 + (8 : Int32)) + x12).toNatClampNeg).toInt8.toInt32) fun s20 => nx (x12 + (1 : Int32)) fun y21 => k215 s20 x0 x1 x2 x3 x4 x7 x9 x10 x11 y21)))))
noncomputable def x_code_215L (fu : Nat) (n : Nat) : GS → Nat → Nat → Nat → Int32 → Int32 → Int64 → Int32 → Int32 → Int32 → Int32 → Option (Int32 × GS) := lpF (F := GS → Nat → Nat → Nat → Int32 → Int32 → Int64 → Int32 → Int32 → Int32 → Int32 → Option (Int32 × GS)) (fun _ _ _ _ _ _ _ _ _ _ _ => none) (fun k => x_code_215 fu k) n
noncomputable def x_code_0 (fu : Nat) (σ : GS) (x0 : Nat) (x1 : Nat) (x2 : Nat) (x3 : Int32) (x4 : Int32) (x5 : Int32) : Option (Int32 × GS) :=
  nx (x4 + x5) fun y1 => if (8 : Int32) ≤ x5 then ckT σ 1 x0 ((x_u4 σ x0 (x4 + (4 : Int32))).bind fun r4 => nx (r4.toInt64 &&& (4294967295 : Int64)) fun y6 => if (lg_cmp y6 ((x5 - (8 : Int32)).toInt64)) ≤ 0 then nx ((x4 + (8 : Int32)) + y6.toInt32) fun y8 => if (y8 + (2 : Int32)) ≤ y1 then (x_u2 σ x0 y8).bind fun r10 => nx ((y8 + (2 : Int32)) + ((8 : Int32) * r10)) fun y12 => if y1 < y12 then x_code_125 fu σ x0 x3 else (x_endOfAttributes fu σ x0 y12 y1).bind fun r14 => if r14 = y1 then if (lg_cmp y6 (0 : Int64)) = 0 then x_code_149 fu σ x0 x3 else if (lg_cmp y6 (65535 : Int64)) ≤ 0 then ckT σ 4 x2 (nx (gpi σ x2 10 (1 : Int32)) fun s20 => (x_u2 s20 x0 x4).bind fun r21 => nx (gpi s20 x2 8 r21) fun s23 => (x_u2 s23 x0 (x4 + (2 : Int32))).bind fun r24 => nx (gpi s23 x2 9 r24) fun s26 => if (gi s26 x2 13) ≤ (gi s26 x2 9) then ckL y6.toInt32 (ckC s26 y6.toInt32.toNatClampNeg (nx (gx s26) fun a30 => nx (gnew s26 101 y6.toInt32.toNatClampNeg y6.toInt32.toNatClampNeg) fun s31 => ckT s31 4 x2 (nx (gpr s31 x2 11 (some a30)) fun s34 => x_code_215L fu fu s34 x0 x1 x2 x3 x4 y6 y8 r10 y12 (0 : Int32)))) else (x_wrong s26 x0 (42 : Int32) x3).bind fun r35 => ckN .boolean r35.1 (some (r35.1, r35.2))) else x_code_149 fu σ x0 x3 else x_code_125 fu σ x0 x3 else (x_wrong σ x0 (30 : Int32) x3).bind fun r38 => ckN .boolean r38.1 (some (r38.1, r38.2)) else (x_wrong σ x0 (30 : Int32) x3).bind fun r41 => ckN .boolean r41.1 (some (r41.1, r41.2))) else ckT σ 1 x0 ((x_wrong σ x0 (30 : Int32) x3).bind fun r45 => ckN .boolean r45.1 (some (r45.1, r45.2)))
noncomputable def x_code (fu : Nat) (σ : GS) (x0 : Nat) (x1 : Nat) (x2 : Nat) (x3 : Int32) (x4 : Int32) (x5 : Int32) : Option (Int32 × GS) := x_code_0 fu σ x0 x1 x2 x3 x4 x5
noncomputable def x_attribute_514 (fu : Nat) (σ : GS) (x0 : Nat) (x3 : Int32) : Option (Int32 × GS) :=
  ckT σ 1 x0 ((x_wrong σ x0 (36 : Int32) x3).bind fun r2 => ckN .boolean r2.1 (some (r2.1, r2.2)))
noncomputable def x_attribute_109 (fu : Nat) (σ : GS) : Option (Int32 × GS) :=
  some ((1 : Int32), σ)
noncomputable def x_attribute_179 (fu : Nat) (σ : GS) : Option (Int32 × GS) :=
  some ((1 : Int32), σ)
noncomputable def x_attribute_319 (fu : Nat) (k221 : GS → Nat → Nat → Int32 → Int32 → Int32 → Option (Int32 × GS)) (σ : GS) (x0 : Nat) (x1 : Nat) (x3 : Int32) (x4 : Int32) (x8 : Int32) (t0 : Int32) : Option (Int32 × GS) :=
  if t0 = 0 then ckT σ 1 x0 ((x_wrong σ x0 (33 : Int32) x3).bind fun r4 => ckN .boolean r4.1 (some (r4.1, r4.2))) else nx (x8 + (1 : Int32)) fun y2 => k221 σ x0 x1 x3 x4 y2
noncomputable def x_attribute_314 (fu : Nat) (k221 : GS → Nat → Nat → Int32 → Int32 → Int32 → Option (Int32 × GS)) (σ : GS) (x0 : Nat) (x1 : Nat) (x3 : Int32) (x4 : Int32) (x8 : Int32) : Option (Int32 × GS) :=
  x_attribute_319 fu k221 σ x0 x1 x3 x4 x8 (1 : Int32)
noncomputable def x_attribute_318 (fu : Nat) (k221 : GS → Nat → Nat → Int32 → Int32 → Int32 → Option (Int32 × GS)) (σ : GS) (x0 : Nat) (x1 : Nat) (x3 : Int32) (x4 : Int32) (x8 : Int32) : Option (Int32 × GS) :=
  x_attribute_319 fu k221 σ x0 x1 x3 x4 x8 (0 : Int32)
noncomputable def x_attribute_287 (fu : Nat) (k221 : GS → Nat → Nat → Int32 → Int32 → Int32 → Option (Int32 × GS)) (σ : GS) (x0 : Nat) (x1 : Nat) (x3 : Int32) (x4 : Int32) (x8 : Int32) (x9 : Int32) : Option (Int32 × GS) :=
  ckT σ 1 x0 ((x_u2 σ x0 (x9 + (4 : Int32))).bind fun r2 => if r2 = 0 then x_attribute_314 fu k221 σ x0 x1 x3 x4 x8 else (x_u2 σ x0 (x9 + (4 : Int32))).bind fun r5 => (x_isTag σ x1 r5 (1 : Int32)).bind fun r7 => if r7 = 0 then x_attribute_318 fu k221 σ x0 x1 x3 x4 x8 else x_attribute_314 fu k221 σ x0 x1 x3 x4 x8)
noncomputable def x_attribute_221 (fu : Nat) (k221 : GS → Nat → Nat → Int32 → Int32 → Int32 → Option (Int32 × GS)) (σ : GS) (x0 : Nat) (x1 : Nat) (x3 : Int32) (x4 : Int32) (x8 : Int32) : Option (Int32 × GS) :=
  ckT σ 1 x0 ((x_u2 σ x0 x4).bind fun r2 => if r2 ≤ x8 then some ((1 : Int32), σ) else nx ((x4 + (2 : Int32)) + ((8 : Int32) * x8)) fun y5 => (x_u2 σ x0 y5).bind fun r6 => (x_isTag σ x1 r6 (7 : Int32)).bind fun r8 => if r8 = 0 then x_attribute_318 fu k221 σ x0 x1 x3 x4 x8 else (x_u2 σ x0 (y5 + (2 : Int32))).bind fun r11 => if r11 = 0 then x_attribute_287 fu k221 σ x0 x1 x3 x4 x8 y5 else (x_u2 σ x0 (y5 + (2 : Int32))).bind fun r14 => (x_isTag σ x1 r14 (7 : Int32)).bind fun r16 => if r16 = 0 then x_attribute_318 fu k221 σ x0 x1 x3 x4 x8 else x_attribute_287 fu k221 σ x0 x1 x3 x4 x8 y5)
noncomputable def x_attribute_221L (fu : Nat) (n : Nat) : GS → Nat → Nat → Int32 → Int32 → Int32 → Option (Int32 × GS) := lpF (F := GS → Nat → Nat → Int32 → Int32 → Int32 → Option (Int32 × GS)) (fun _ _ _ _ _ _ => none) (fun k => x_attribute_221 fu k) n
noncomputable def x_attribute_389 (fu : Nat) (σ : GS) (x0 : Nat) (x3 : Int32) : Option (Int32 × GS) :=
  ckT σ 1 x0 ((x_wrong σ x0 (34 : Int32) x3).bind fun r2 => ckN .boolean r2.1 (some (r2.1, r2.2)))
noncomputable def x_attribute_441 (fu : Nat) (σ : GS) (x0 : Nat) (x3 : Int32) : Option (Int32 × GS) :=
  ckT σ 1 x0 ((x_wrong σ x0 (35 : Int32) x3).bind fun r2 => ckN .boolean r2.1 (some (r2.1, r2.2)))
noncomputable def x_attribute_0 (fu : Nat) (σ : GS) (x0 : Nat) (x1 : Nat) (x2 : Int32) (x3 : Int32) (x4 : Int32) (x5 : Int32) (x6 : Option Nat) (x7 : Option Nat) : Option (Int32 × GS) :=
  if x2 = (1 : Int32) then if x5 = (2 : Int32) then ckK σ 3 x6 fun a3 => if ((gi σ a3 4) &&& (8 : Int32)) = 0 then some ((1 : Int32), σ) else ckT σ 1 x0 ((x_u2 σ x0 x4).bind fun r8 => nx (gpi σ a3 5 r8) fun s10 => (x_isConstant fu s10 x1 a3).bind fun r11 => if r11 = 0 then (x_wrong s10 x0 (31 : Int32) x3).bind fun r14 => if r14.1 = 0 then some ((0 : Int32), r14.2) else x_attribute_109 fu r14.2 else x_attribute_109 fu s10) else ckT σ 1 x0 ((x_wrong σ x0 (30 : Int32) x3).bind fun r18 => ckN .boolean r18.1 (some (r18.1, r18.2))) else if x2 = (2 : Int32) then ckT σ 1 x0 (ckR x7 fun a23 => (x_code fu σ x0 x1 a23 x3 x4 x5).bind fun r26 => ckN .boolean r26.1 (some (r26.1, r26.2))) else if x2 = (3 : Int32) then ckT σ 1 x0 ((x_isTable σ x0 x4 x5 (2 : Int32)).bind fun r31 => if r31 = 0 then (x_wrong σ x0 (30 : Int32) x3).bind fun r46 => ckN .boolean r46.1 (some (r46.1, r46.2)) else (x_u2 σ x0 x4).bind fun r34 => ckK σ 4 x7 fun a36 => nx (gpi σ a36 7 r34) fun s39 => (x_areClasses fu s39 x0 x1 x4).bind fun r40 => if r40 = 0 then (x_wrong s39 x0 (32 : Int32) x3).bind fun r43 => if r43.1 = 0 then some ((0 : Int32), r43.2) else x_attribute_179 fu r43.2 else x_attribute_179 fu s39) else if x2 = (4 : Int32) then some ((1 : Int32), σ) else if x2 = (5 : Int32) then ckT σ 1 x0 ((x_isTable σ x0 x4 x5 (8 : Int32)).bind fun r52 => if r52 = 0 then (x_wrong σ x0 (30 : Int32) x3).bind fun r59 => ckN .boolean r59.1 (some (r59.1, r59.2)) else (x_u2 σ x0 x4).bind fun r55 => ckT σ 2 x1 (nx (gpi σ x1 18 r55) fun s58 => x_attribute_221L fu fu s58 x0 x1 x3 x4 (0 : Int32))) else if x2 = (6 : Int32) then ckT σ 1 x0 ((x_boots fu σ x0 x1 x3 x4 x5).bind fun r64 => ckN .boolean r64.1 (some (r64.1, r64.2))) else if x2 = (7 : Int32) then if x5 = (2 : Int32) then ckT σ 1 x0 ((x_u2 σ x0 x4).bind fun r70 => (x_isTag σ x1 r70 (7 : Int32)).bind fun r72 => if r72 = 0 then x_attribute_389 fu σ x0 x3 else ckT σ 2 x1 (if (gi σ x1 15) = 0 then nx (gpi σ x1 14 (1 : Int32)) fun s77 => some ((1 : Int32), s77) else x_attribute_389 fu σ x0 x3)) else ckT σ 1 x0 ((x_wrong σ x0 (30 : Int32) x3).bind fun r79 => ckN .boolean r79.1 (some (r79.1, r79.2))) else if x2 = (8 : Int32) then ckT σ 1 x0 ((x_isTable σ x0 x4 x5 (2 : Int32)).bind fun r84 => if r84 = 0 then (x_wrong σ x0 (30 : Int32) x3).bind fun r96 => ckN .boolean r96.1 (some (r96.1, r96.2)) else (x_areClasses fu σ x0 x1 x4).bind fun r87 => if r87 = 0 then x_attribute_441 fu σ x0 x3 else ckT σ 2 x1 (if (gi σ x1 14) = 0 then nx (gpi σ x1 15 (1 : Int32)) fun s92 => (x_u2 s92 x0 x4).bind fun r93 => nx (gpi s92 x1 16 r93) fun s95 => some ((1 : Int32), s95) else x_attribute_441 fu σ x0 x3)) else if x2 = (9 : Int32) then ckT σ 1 x0 ((x_record fu σ x0 x1 x3 x4 x5).bind fun r101 => ckN .boolean r101.1 (some (r101.1, r101.2))) else ckT σ 1 x0 ((x_isTable σ x0 x4 x5 (2 : Int32)).bind fun r105 => if r105 = 0 then (x_wrong σ x0 (30 : Int32) x3).bind fun r118 => ckN .boolean r118.1 (some (r118.1, r118.2)) else (x_areClasses fu σ x0 x1 x4).bind fun r108 => if r108 = 0 then x_attribute_514 fu σ x0 x3 else ckT σ 2 x1 ((x_X3_isFinal σ x1).bind fun r112 => if r112 = 0 then (x_u2 σ x0 x4).bind fun r115 => nx (gpi σ x1 17 r115) fun s117 => some ((1 : Int32), s117) else x_attribute_514 fu σ x0 x3))
noncomputable def x_attribute (fu : Nat) (σ : GS) (x0 : Nat) (x1 : Nat) (x2 : Int32) (x3 : Int32) (x4 : Int32) (x5 : Int32) (x6 : Option Nat) (x7 : Option Nat) : Option (Int32 × GS) := x_attribute_0 fu σ x0 x1 x2 x3 x4 x5 x6 x7
noncomputable def x_attributes_193 (fu : Nat) (k12 : GS → Nat → Nat → Int32 → Option Nat → Option Nat → Int32 → Int32 → Int32 → Option (Int32 × GS)) (σ : GS) (x0 : Nat) (x1 : Nat) (x2 : Int32) (x3 : Option Nat) (x4 : Option Nat) (x5 : Int32) (x6 : Int32) (x7 : Int32) (x8 : Int32) (x10 : Int32) : Option (Int32 × GS) :=
  ckT σ 1 x0 (nx (gpi σ x0 6 ((x8 + (6 : Int32)) + x10)) fun s2 => nx (x7 + (1 : Int32)) fun y3 => k12 s2 x0 x1 x2 x3 x4 x5 x6 y3)
noncomputable def x_attributes_164 (fu : Nat) (k12 : GS → Nat → Nat → Int32 → Option Nat → Option Nat → Int32 → Int32 → Int32 → Option (Int32 × GS)) (σ : GS) (x0 : Nat) (x1 : Nat) (x2 : Int32) (x3 : Option Nat) (x4 : Option Nat) (x5 : Int32) (x6 : Int32) (x7 : Int32) (x8 : Int32) (x10 : Int32) (x11 : Int32) : Option (Int32 × GS) :=
  if x11 ≤ 0 then x_attributes_193 fu k12 σ x0 x1 x2 x3 x4 x5 x6 x7 x8 x10 else ckT σ 1 x0 ((x_attribute fu σ x0 x1 x11 x8 (x8 + (6 : Int32)) x10 x3 x4).bind fun r3 => if r3.1 = 0 then some ((0 : Int32), r3.2) else x_attributes_193 fu k12 r3.2 x0 x1 x2 x3 x4 x5 x6 x7 x8 x10)
noncomputable def x_attributes_144 (fu : Nat) (k12 : GS → Nat → Nat → Int32 → Option Nat → Option Nat → Int32 → Int32 → Int32 → Option (Int32 × GS)) (σ : GS) (x0 : Nat) (x1 : Nat) (x2 : Int32) (x3 : Option Nat) (x4 : Option Nat) (x5 : Int32) (x6 : Int32) (x7 : Int32) (x8 : Int32) (x10 : Int32) (x11 : Int32) : Option (Int32 × GS) :=
  if x11 ≤ 0 then x_attributes_164 fu k12 σ x0 x1 x2 x3 x4 x5 x6 x7 x8 x10 x11 else if x2 = (3 : Int32) then ckT σ 2 x1 (nx (gpi σ x1 20 ((gi σ x1 20) + (1 : Int32))) fun s4 => x_attributes_164 fu k12 s4 x0 x1 x2 x3 x4 x5 x6 x7 x8 x10 x11) else x_attributes_164 fu k12 σ x0 x1 x2 x3 x4 x5 x6 x7 x8 x10 x11
noncomputable def x_attributes_123 (fu : Nat) (k12 : GS → Nat → Nat → Int32 → Option Nat → Option Nat → Int32 → Int32 → Int32 → Option (Int32 × GS)) (σ : GS) (x0 : Nat) (x1 : Nat) (x2 : Int32) (x3 : Option Nat) (x4 : Option Nat) (x5 : Int32) (x6 : Int32) (x7 : Int32) (x8 : Int32) (x10 : Int32) (x11 : Int32) : Option (Int32 × GS) :=
  if x11 ≤ 0 then x_attributes_144 fu k12 σ x0 x1 x2 x3 x4 x5 x6 x7 x8 x10 x11 else if x2 = (1 : Int32) then ckK σ 4 x4 fun a3 => nx (gpi σ a3 6 ((gi σ a3 6) + (1 : Int32))) fun s6 => x_attributes_144 fu k12 s6 x0 x1 x2 x3 x4 x5 x6 x7 x8 x10 x11 else x_attributes_144 fu k12 σ x0 x1 x2 x3 x4 x5 x6 x7 x8 x10 x11
noncomputable def x_attributes_95 (fu : Nat) (k12 : GS → Nat → Nat → Int32 → Option Nat → Option Nat → Int32 → Int32 → Int32 → Option (Int32 × GS)) (σ : GS) (x0 : Nat) (x1 : Nat) (x2 : Int32) (x3 : Option Nat) (x4 : Option Nat) (x5 : Int32) (x6 : Int32) (x7 : Int32) (x8 : Int32) (x10 : Int32) (x11 : Int32) : Option (Int32 × GS) :=
  nx (x6 ||| ((1 : Int32) <<< (x11 &&& 31))) fun y1 => if x11 ≤ 0 then x_attributes_123 fu k12 σ x0 x1 x2 x3 x4 x5 y1 x7 x8 x10 x11 else if x2 = 0 then ckK σ 3 x3 fun a4 => nx (gpi σ a4 7 ((gi σ a4 7) + (1 : Int32))) fun s7 => x_attributes_123 fu k12 s7 x0 x1 x2 x3 x4 x5 y1 x7 x8 x10 x11 else x_attributes_123 fu k12 σ x0 x1 x2 x3 x4 x5 y1 x7 x8 x10 x11
noncomputable def x_attributes_12 (fu : Nat) (k12 : GS → Nat → Nat → Int32 → Option Nat → Option Nat → Int32 → Int32 → Int32 → Option (Int32 × GS)) (σ : GS) (x0 : Nat) (x1 : Nat) (x2 : Int32) (x3 : Option Nat) (x4 : Option Nat) (x5 : Int32) (x6 : Int32) (x7 : Int32) : Option (Int32 × GS) :=
  if x5 ≤ x7 then some ((1 : Int32), σ) else ckT σ 1 x0 (nx (gi σ x0 6) fun y3 => (x_u2 σ x0 y3).bind fun r4 => (x_textAt σ x1 r4).bind fun r6 => if r6 = none then (x_wrong σ x0 (28 : Int32) y3).bind fun r21 => ckN .boolean r21.1 (some (r21.1, r21.2)) else (x_u4 σ x0 (y3 + (2 : Int32))).bind fun r9 => ckR r6 fun a11 => (x_known fu σ x1 x2 a11).bind fun r14 => if r14 ≤ 0 then x_attributes_95 fu k12 σ x0 x1 x2 x3 x4 x5 x6 x7 y3 r9 r14 else if ((x6 >>> (r14 &&& 31)) &&& (1 : Int32)) = (1 : Int32) then (x_wrong σ x0 (29 : Int32) y3).bind fun r18 => ckN .boolean r18.1 (some (r18.1, r18.2)) else x_attributes_95 fu k12 σ x0 x1 x2 x3 x4 x5 x6 x7 y3 r9 r14)
noncomputable def x_attributes_12L (fu : Nat) (n : Nat) : GS → Nat → Nat → Int32 → Option Nat → Option Nat → Int32 → Int32 → Int32 → Option (Int32 × GS) := lpF (F := GS → Nat → Nat → Int32 → Option Nat → Option Nat → Int32 → Int32 → Int32 → Option (Int32 × GS)) (fun _ _ _ _ _ _ _ _ _ => none) (fun k => x_attributes_12 fu k) n
noncomputable def x_attributes_0 (fu : Nat) (σ : GS) (x0 : Nat) (x1 : Nat) (x2 : Int32) (x3 : Option Nat) (x4 : Option Nat) : Option (Int32 × GS) :=
  ckT σ 1 x0 ((x_next2 σ x0).bind fun r2 => x_attributes_12L fu fu r2.2 x0 x1 x2 x3 x4 r2.1 (0 : Int32) (0 : Int32))
noncomputable def x_attributes (fu : Nat) (σ : GS) (x0 : Nat) (x1 : Nat) (x2 : Int32) (x3 : Option Nat) (x4 : Option Nat) : Option (Int32 × GS) := x_attributes_0 fu σ x0 x1 x2 x3 x4
noncomputable def x_checkFields_200 (fu : Nat) (σ : GS) (x0 : Nat) (x5 : Int32) : Option (Int32 × GS) :=
  ckT σ 1 x0 ((x_wrong σ x0 (20 : Int32) (x5 + (2 : Int32))).bind fun r2 => ckN .boolean r2.1 (some (r2.1, r2.2)))
noncomputable def x_checkFields_247 (fu : Nat) (σ : GS) (x0 : Nat) (x5 : Int32) : Option (Int32 × GS) :=
  ckT σ 1 x0 ((x_wrong σ x0 (21 : Int32) (x5 + (4 : Int32))).bind fun r2 => ckN .boolean r2.1 (some (r2.1, r2.2)))
noncomputable def x_checkFields_318 (fu : Nat) (k261 : GS → Nat → Nat → Int32 → Int32 → Nat → Int32 → Int32 → Option (Int32 × GS)) (σ : GS) (x0 : Nat) (x1 : Nat) (x2 : Int32) (x3 : Int32) (x4 : Nat) (x5 : Int32) (x7 : Int32) : Option (Int32 × GS) :=
  nx (x7 + (1 : Int32)) fun y1 => k261 σ x0 x1 x2 x3 x4 x5 y1
noncomputable def x_checkFields_261 (fu : Nat) (k23 : GS → Nat → Nat → Int32 → Int32 → Option (Int32 × GS)) (k261 : GS → Nat → Nat → Int32 → Int32 → Nat → Int32 → Int32 → Option (Int32 × GS)) (σ : GS) (x0 : Nat) (x1 : Nat) (x2 : Int32) (x3 : Int32) (x4 : Nat) (x5 : Int32) (x7 : Int32) : Option (Int32 × GS) :=
  if x3 ≤ x7 then ckT σ 3 x4 (ckR (gr σ x4 1) fun a3 => (x_kindAt fu σ a3 (0 : Int32)).bind fun r6 => nx (gpi σ x4 6 r6) fun s8 => ckT s8 1 x0 (nx (gpi s8 x0 6 (x5 + (6 : Int32))) fun s10 => (x_attributes fu s10 x0 x1 (0 : Int32) (some x4) none).bind fun r11 => if r11.1 = 0 then some ((0 : Int32), r11.2) else nx (x3 + (1 : Int32)) fun y14 => k23 r11.2 x0 x1 x2 y14)) else ckT σ 2 x1 (ckK σ 106 (gr σ x1 12) fun a16 => ckIn x7 (gn σ a16) (ckK σ 3 (gr σ a16 x7.toNatClampNeg) fun a20 => ckT σ 3 x4 (ckK σ 6 (gr σ a20 0) fun a24 => ckR (gr σ x4 0) fun a27 => (x_J2_equals fu σ a24 a27).bind fun r30 => if r30 = 0 then x_checkFields_318 fu k261 σ x0 x1 x2 x3 x4 x5 x7 else ckIn x7 (gn σ a16) (ckK σ 6 (gr σ a20 1) fun a34 => ckR (gr σ x4 1) fun a37 => (x_J2_equals fu σ a34 a37).bind fun r40 => if r40 = 0 then x_checkFields_318 fu k261 σ x0 x1 x2 x3 x4 x5 x7 else ckT σ 1 x0 ((x_wrong σ x0 (22 : Int32) x5).bind fun r44 => ckN .boolean r44.1 (some (r44.1, r44.2)))))))
noncomputable def x_checkFields_261L (fu : Nat) (k23 : GS → Nat → Nat → Int32 → Int32 → Option (Int32 × GS)) (n : Nat) : GS → Nat → Nat → Int32 → Int32 → Nat → Int32 → Int32 → Option (Int32 × GS) := lpF (F := GS → Nat → Nat → Int32 → Int32 → Nat → Int32 → Int32 → Option (Int32 × GS)) (fun _ _ _ _ _ _ _ _ => none) (fun k => x_checkFields_261 fu k23 k) n
noncomputable def x_checkFields_112 (fu : Nat) (k23 : GS → Nat → Nat → Int32 → Int32 → Option (Int32 × GS)) (σ : GS) (x0 : Nat) (x1 : Nat) (x2 : Int32) (x3 : Int32) (x4 : Nat) (x5 : Int32) (t0 : Int32) : Option (Int32 × GS) :=
  if t0 = 0 then ckT σ 1 x0 ((x_u2 σ x0 (x5 + (2 : Int32))).bind fun r3 => ckT σ 3 x4 (nx (gpi σ x4 2 r3) fun s6 => (x_u2 s6 x0 (x5 + (4 : Int32))).bind fun r7 => nx (gpi s6 x4 3 r7) fun s9 => (x_u2 s9 x0 (x5 + (2 : Int32))).bind fun r10 => (x_textAt s9 x1 r10).bind fun r12 => nx (gpr s9 x4 0 r12) fun s14 => if (gr s14 x4 0) = none then x_checkFields_200 fu s14 x0 x5 else ckK s14 6 (gr s14 x4 0) fun a16 => (x_J2_length s14 a16).bind fun r19 => (x_isPlainName fu s14 a16 (0 : Int32) r19 (0 : Int32)).bind fun r21 => if r21 = 0 then x_checkFields_200 fu s14 x0 x5 else (x_u2 s14 x0 (x5 + (4 : Int32))).bind fun r24 => (x_textAt s14 x1 r24).bind fun r26 => nx (gpr s14 x4 1 r26) fun s28 => if (gr s28 x4 1) = none then x_checkFields_247 fu s28 x0 x5 else ckR (gr s28 x4 1) fun a30 => (x_isFieldType fu s28 a30).bind fun r33 => if r33 = 0 then x_checkFields_247 fu s28 x0 x5 else x_checkFields_261L fu k23 fu s28 x0 x1 x2 x3 x4 x5 (0 : Int32))) else ckT σ 1 x0 ((x_wrong σ x0 (19 : Int32) x5).bind fun r37 => ckN .boolean r37.1 (some (r37.1, r37.2)))
noncomputable def x_checkFields_107 (fu : Nat) (k23 : GS → Nat → Nat → Int32 → Int32 → Option (Int32 × GS)) (σ : GS) (x0 : Nat) (x1 : Nat) (x2 : Int32) (x3 : Int32) (x4 : Nat) (x5 : Int32) : Option (Int32 × GS) :=
  x_checkFields_112 fu k23 σ x0 x1 x2 x3 x4 x5 (1 : Int32)
noncomputable def x_checkFields_111 (fu : Nat) (k23 : GS → Nat → Nat → Int32 → Int32 → Option (Int32 × GS)) (σ : GS) (x0 : Nat) (x1 : Nat) (x2 : Int32) (x3 : Int32) (x4 : Nat) (x5 : Int32) : Option (Int32 × GS) :=
  x_checkFields_112 fu k23 σ x0 x1 x2 x3 x4 x5 (0 : Int32)
noncomputable def x_checkFields_23 (fu : Nat) (k23 : GS → Nat → Nat → Int32 → Int32 → Option (Int32 × GS)) (σ : GS) (x0 : Nat) (x1 : Nat) (x2 : Int32) (x3 : Int32) : Option (Int32 × GS) :=
  if x2 ≤ x3 then some ((1 : Int32), σ) else ckC σ 8 (nx (gx σ) fun a3 => nx (gnew σ 3 0 8) fun s4 => (x_X4_init s4 a3).bind fun r6 => ckT s4 2 x1 (ckK s4 106 (gr s4 x1 12) fun a9 => ckIn x3 (gn s4 a9) (nx (gpr s4 a9 x3.toNatClampNeg (some a3)) fun s13 => ckT s13 1 x0 (nx (gi s13 x0 6) fun y15 => (x_u2 s13 x0 y15).bind fun r16 => nx (gpi s13 a3 4 r16) fun s18 => (x_isMoreThanOne s18 (gi s18 a3 4)).bind fun r19 => if r19 = 0 then if ((gi s18 a3 4) &&& (80 : Int32)) = (80 : Int32) then x_checkFields_107 fu k23 s18 x0 x1 x2 x3 a3 y15 else (x_X3_isFace s18 x1).bind fun r23 => if r23 = 0 then x_checkFields_111 fu k23 s18 x0 x1 x2 x3 a3 y15 else if ((gi s18 a3 4) &&& (16607 : Int32)) = (25 : Int32) then x_checkFields_111 fu k23 s18 x0 x1 x2 x3 a3 y15 else x_checkFields_107 fu k23 s18 x0 x1 x2 x3 a3 y15 else x_checkFields_107 fu k23 s18 x0 x1 x2 x3 a3 y15))))
noncomputable def x_checkFields_23L (fu : Nat) (n : Nat) : GS → Nat → Nat → Int32 → Int32 → Option (Int32 × GS) := lpF (F := GS → Nat → Nat → Int32 → Int32 → Option (Int32 × GS)) (fun _ _ _ _ _ => none) (fun k => x_checkFields_23 fu k) n
noncomputable def x_checkFields_0 (fu : Nat) (σ : GS) (x0 : Nat) (x1 : Nat) : Option (Int32 × GS) :=
  ckT σ 1 x0 (nx (gpi σ x0 6 (gi σ x0 10)) fun s2 => (x_next2 s2 x0).bind fun r3 => ckL r3.1 (ckC r3.2 r3.1.toNatClampNeg (nx (gx r3.2) fun a7 => nx (gnew r3.2 106 r3.1.toNatClampNeg r3.1.toNatClampNeg) fun s8 => ckT s8 2 x1 (nx (gpr s8 x1 12 (some a7)) fun s11 => x_checkFields_23L fu fu s11 x0 x1 r3.1 (0 : Int32)))))
noncomputable def x_checkFields (fu : Nat) (σ : GS) (x0 : Nat) (x1 : Nat) : Option (Int32 × GS) := x_checkFields_0 fu σ x0 x1
noncomputable def x_X5_init_0 (σ : GS) (x0 : Nat) : Option GS :=
  ckL (0 : Int32) (ckC σ (0 : Int32).toNatClampNeg (nx (gx σ) fun a3 => nx (gnew σ 100 (0 : Int32).toNatClampNeg (0 : Int32).toNatClampNeg) fun s4 => ckT s4 4 x0 (nx (gpr s4 x0 12 (some a3)) fun s7 => some s7)))
noncomputable def x_X5_init (σ : GS) (x0 : Nat) : Option GS := x_X5_init_0 σ x0
noncomputable def x_X5_isInit_0 (fu : Nat) (σ : GS) (x0 : Nat) : Option Int32 :=
  ckT σ 4 x0 (ckK σ 6 (gr σ x0 1) fun a2 => (x_J2_equals fu σ a2 (gz σ 15)).bind fun r5 => ckN .boolean r5 (some r5))
noncomputable def x_X5_isInit (fu : Nat) (σ : GS) (x0 : Nat) : Option Int32 := x_X5_isInit_0 fu σ x0
noncomputable def x_areMethodFlags_46 (fu : Nat) (σ : GS) : Option Int32 :=
  some (0 : Int32)
noncomputable def x_areMethodFlags_130 (fu : Nat) (σ : GS) : Option Int32 :=
  some (0 : Int32)
noncomputable def x_areMethodFlags_184 (fu : Nat) (σ : GS) : Option Int32 :=
  some (0 : Int32)
noncomputable def x_areMethodFlags_210 (fu : Nat) (σ : GS) (t0 : Int32) (t1 : Int32) : Option Int32 :=
  if t1 = t0 then some (0 : Int32) else some (1 : Int32)
noncomputable def x_areMethodFlags_199 (fu : Nat) (σ : GS) (x2 : Int32) (t0 : Int32) : Option Int32 :=
  if (x2 &&& (2 : Int32)) = 0 then x_areMethodFlags_210 fu σ (0 : Int32) t0 else x_areMethodFlags_210 fu σ (1 : Int32) t0
noncomputable def x_areMethodFlags_105 (fu : Nat) (σ : GS) (x0 : Nat) (x2 : Int32) (t0 : Int32) : Option Int32 :=
  ckT σ 2 x0 ((x_X3_isFace σ x0).bind fun r2 => if r2 = 0 then (x_isMoreThanOne σ x2).bind fun r12 => if r12 = 0 then if t0 = 0 then x_areMethodFlags_130 fu σ else some (1 : Int32) else x_areMethodFlags_130 fu σ else if (x2 &&& (308 : Int32)) = 0 then if t0 = 0 then some (0 : Int32) else if (52 : Int32) ≤ (gi σ x0 1) then if (x2 &&& (1 : Int32)) = 0 then x_areMethodFlags_199 fu σ x2 (0 : Int32) else x_areMethodFlags_199 fu σ x2 (1 : Int32) else if (x2 &&& (1025 : Int32)) = (1025 : Int32) then if (x2 &&& (8 : Int32)) = 0 then if (x2 &&& (2 : Int32)) = 0 then some (1 : Int32) else x_areMethodFlags_184 fu σ else x_areMethodFlags_184 fu σ else x_areMethodFlags_184 fu σ else some (0 : Int32))
noncomputable def x_areMethodFlags_100 (fu : Nat) (σ : GS) (x0 : Nat) (x2 : Int32) : Option Int32 :=
  x_areMethodFlags_105 fu σ x0 x2 (1 : Int32)
noncomputable def x_areMethodFlags_104 (fu : Nat) (σ : GS) (x0 : Nat) (x2 : Int32) : Option Int32 :=
  x_areMethodFlags_105 fu σ x0 x2 (0 : Int32)
noncomputable def x_areMethodFlags_79 (fu : Nat) (σ : GS) (x0 : Nat) (x2 : Int32) (t0 : Int32) : Option Int32 :=
  if (x2 &&& (1024 : Int32)) = 0 then x_areMethodFlags_100 fu σ x0 x2 else if (x2 &&& (314 : Int32)) = 0 then if t0 = 0 then x_areMethodFlags_100 fu σ x0 x2 else x_areMethodFlags_104 fu σ x0 x2 else x_areMethodFlags_104 fu σ x0 x2
noncomputable def x_areMethodFlags_78 (fu : Nat) (σ : GS) (x0 : Nat) (x2 : Int32) : Option Int32 :=
  x_areMethodFlags_79 fu σ x0 x2 (0 : Int32)
noncomputable def x_areMethodFlags_0 (fu : Nat) (σ : GS) (x0 : Nat) (x1 : Nat) : Option Int32 :=
  ckT σ 4 x1 (nx (gi σ x1 5) fun y2 => ckK σ 6 (gr σ x1 1) fun a3 => (x_J2_equals fu σ a3 (gz σ 14)).bind fun r6 => if r6 = 0 then (x_X5_isInit fu σ x1).bind fun r9 => if r9 = 0 then ckT σ 2 x0 (if (gi σ x0 1) < (46 : Int32) then x_areMethodFlags_78 fu σ x0 y2 else if (60 : Int32) < (gi σ x0 1) then x_areMethodFlags_78 fu σ x0 y2 else if (y2 &&& (2048 : Int32)) = 0 then x_areMethodFlags_78 fu σ x0 y2 else x_areMethodFlags_79 fu σ x0 y2 (1 : Int32)) else (x_isMoreThanOne σ y2).bind fun r16 => if r16 = 0 then if (y2 &&& (1400 : Int32)) = 0 then some (1 : Int32) else x_areMethodFlags_46 fu σ else x_areMethodFlags_46 fu σ else some (1 : Int32))
noncomputable def x_areMethodFlags (fu : Nat) (σ : GS) (x0 : Nat) (x1 : Nat) : Option Int32 := x_areMethodFlags_0 fu σ x0 x1
noncomputable def x_X5_isStatic_0 (σ : GS) (x0 : Nat) : Option Int32 :=
  ckT σ 4 x0 (if ((gi σ x0 5) &&& (8 : Int32)) = 0 then some (0 : Int32) else some (1 : Int32))
noncomputable def x_X5_isStatic (σ : GS) (x0 : Nat) : Option Int32 := x_X5_isStatic_0 σ x0
noncomputable def x_isTwo_11 (σ : GS) : Option Int32 :=
  some (1 : Int32)
noncomputable def x_isTwo_0 (σ : GS) (x0 : Int32) : Option Int32 :=
  if x0 = (7 : Int32) then x_isTwo_11 σ else if x0 = (3 : Int32) then x_isTwo_11 σ else some (0 : Int32)
noncomputable def x_isTwo (σ : GS) (x0 : Int32) : Option Int32 := x_isTwo_0 σ x0
noncomputable def x_describe_55 (fu : Nat) (k18 : GS → Nat → Int32 → Option GS) (σ : GS) (x0 : Nat) (x1 : Int32) (t0 : Int32) (t1 : Int32) (t2 : Nat) : Option GS :=
  ckT σ 4 t2 (nx (gpi σ t2 13 (t1 + t0)) fun s2 => ckT s2 4 x0 (ckR (gr s2 x0 2) fun a4 => (x_endOfType fu s2 a4 x1).bind fun r7 => k18 s2 x0 r7))
noncomputable def x_describe_18 (fu : Nat) (k18 : GS → Nat → Int32 → Option GS) (σ : GS) (x0 : Nat) (x1 : Int32) : Option GS :=
  ckT σ 4 x0 (ckK σ 6 (gr σ x0 2) fun a2 => (x_J2_charAt σ a2 x1).bind fun r5 => if r5 = (41 : Int32) then some σ else (x_kindAt fu σ a2 x1).bind fun r8 => (x_isTwo σ r8).bind fun r10 => if r10 = 0 then x_describe_55 fu k18 σ x0 x1 (1 : Int32) (gi σ x0 13) x0 else x_describe_55 fu k18 σ x0 x1 (2 : Int32) (gi σ x0 13) x0)
noncomputable def x_describe_18L (fu : Nat) (n : Nat) : GS → Nat → Int32 → Option GS := lpF (F := GS → Nat → Int32 → Option GS) (fun _ _ _ => none) (fun k => x_describe_18 fu k) n
noncomputable def x_describe_15 (fu : Nat) (σ : GS) (x0 : Nat) (x1 : Int32) (t0 : Int32) (t1 : Nat) : Option GS :=
  ckT σ 4 t1 (nx (gpi σ t1 13 t0) fun s2 => x_describe_18L fu fu s2 x0 x1)
noncomputable def x_describe_0 (fu : Nat) (σ : GS) (x0 : Nat) : Option GS :=
  ckT σ 4 x0 ((x_X5_isStatic σ x0).bind fun r2 => if r2 = 0 then x_describe_15 fu σ x0 (1 : Int32) (1 : Int32) x0 else x_describe_15 fu σ x0 (1 : Int32) (0 : Int32) x0)
noncomputable def x_describe (fu : Nat) (σ : GS) (x0 : Nat) : Option GS := x_describe_0 fu σ x0
noncomputable def x_checkMethods_293 (fu : Nat) (σ : GS) (x0 : Nat) (x5 : Int32) : Option (Int32 × GS) :=
  ckT σ 1 x0 ((x_wrong σ x0 (25 : Int32) (x5 + (4 : Int32))).bind fun r2 => ckN .boolean r2.1 (some (r2.1, r2.2)))
noncomputable def x_checkMethods_364 (fu : Nat) (k307 : GS → Nat → Nat → Int32 → Int32 → Nat → Int32 → Int32 → Option (Int32 × GS)) (σ : GS) (x0 : Nat) (x1 : Nat) (x2 : Int32) (x3 : Int32) (x4 : Nat) (x5 : Int32) (x8 : Int32) : Option (Int32 × GS) :=
  nx (x8 + (1 : Int32)) fun y1 => k307 σ x0 x1 x2 x3 x4 x5 y1
noncomputable def x_checkMethods_433 (fu : Nat) (k15 : GS → Nat → Nat → Int32 → Int32 → Option (Int32 × GS)) (σ : GS) (x0 : Nat) (x1 : Nat) (x2 : Int32) (x3 : Int32) (x4 : Nat) (x5 : Int32) (t0 : Int32) : Option (Int32 × GS) :=
  ckT σ 4 x4 (if (gi σ x4 10) = t0 then ckT σ 1 x0 ((x_wrong σ x0 (27 : Int32) x5).bind fun r5 => ckN .boolean r5.1 (some (r5.1, r5.2))) else nx (x3 + (1 : Int32)) fun y3 => k15 σ x0 x1 x2 y3)
noncomputable def x_checkMethods_432 (fu : Nat) (k15 : GS → Nat → Nat → Int32 → Int32 → Option (Int32 × GS)) (σ : GS) (x0 : Nat) (x1 : Nat) (x2 : Int32) (x3 : Int32) (x4 : Nat) (x5 : Int32) : Option (Int32 × GS) :=
  x_checkMethods_433 fu k15 σ x0 x1 x2 x3 x4 x5 (0 : Int32)
noncomputable def x_checkMethods_307 (fu : Nat) (k15 : GS → Nat → Nat → Int32 → Int32 → Option (Int32 × GS)) (k307 : GS → Nat → Nat → Int32 → Int32 → Nat → Int32 → Int32 → Option (Int32 × GS)) (σ : GS) (x0 : Nat) (x1 : Nat) (x2 : Int32) (x3 : Int32) (x4 : Nat) (x5 : Int32) (x8 : Int32) : Option (Int32 × GS) :=
  if x3 ≤ x8 then ckT σ 4 x4 (ckK σ 6 (gr σ x4 1) fun a3 => (x_J2_equals fu σ a3 (gz σ 14)).bind fun r6 => (x_describe fu σ x4).bind fun r8 => ckT r8 1 x0 (nx (gpi r8 x0 6 (x5 + (6 : Int32))) fun s11 => (x_attributes fu s11 x0 x1 (1 : Int32) none (some x4)).bind fun r12 => if r12.1 = 0 then some ((0 : Int32), r12.2) else if r6 = 0 then ckT r12.2 4 x4 (if ((gi r12.2 x4 5) &&& (1280 : Int32)) = 0 then x_checkMethods_432 fu k15 r12.2 x0 x1 x2 x3 x4 x5 else x_checkMethods_433 fu k15 r12.2 x0 x1 x2 x3 x4 x5 (1 : Int32)) else x_checkMethods_432 fu k15 r12.2 x0 x1 x2 x3 x4 x5)) else ckT σ 2 x1 (ckK σ 107 (gr σ x1 13) fun a19 => ckIn x8 (gn σ a19) (ckK σ 4 (gr σ a19 x8.toNatClampNeg) fun a23 => ckT σ 4 x4 (ckK σ 6 (gr σ a23 1) fun a27 => ckR (gr σ x4 1) fun a30 => (x_J2_equals fu σ a27 a30).bind fun r33 => if r33 = 0 then x_checkMethods_364 fu k307 σ x0 x1 x2 x3 x4 x5 x8 else ckIn x8 (gn σ a19) (ckK σ 6 (gr σ a23 2) fun a37 => ckR (gr σ x4 2) fun a40 => (x_J2_equals fu σ a37 a40).bind fun r43 => if r43 = 0 then x_checkMethods_364 fu k307 σ x0 x1 x2 x3 x4 x5 x8 else ckT σ 1 x0 ((x_wrong σ x0 (26 : Int32) x5).bind fun r47 => ckN .boolean r47.1 (some (r47.1, r47.2)))))))
noncomputable def x_checkMethods_307L (fu : Nat) (k15 : GS → Nat → Nat → Int32 → Int32 → Option (Int32 × GS)) (n : Nat) : GS → Nat → Nat → Int32 → Int32 → Nat → Int32 → Int32 → Option (Int32 × GS) := lpF (F := GS → Nat → Nat → Int32 → Int32 → Nat → Int32 → Int32 → Option (Int32 × GS)) (fun _ _ _ _ _ _ _ _ => none) (fun k => x_checkMethods_307 fu k15 k) n
noncomputable def x_checkMethods_304 (fu : Nat) (k15 : GS → Nat → Nat → Int32 → Int32 → Option (Int32 × GS)) (σ : GS) (x0 : Nat) (x1 : Nat) (x2 : Int32) (x3 : Int32) (x4 : Nat) (x5 : Int32) : Option (Int32 × GS) :=
  x_checkMethods_307L fu k15 fu σ x0 x1 x2 x3 x4 x5 (0 : Int32)
noncomputable def x_checkMethods_277 (fu : Nat) (k15 : GS → Nat → Nat → Int32 → Int32 → Option (Int32 × GS)) (σ : GS) (x0 : Nat) (x1 : Nat) (x2 : Int32) (x3 : Int32) (x4 : Nat) (x5 : Int32) (x7 : Int32) : Option (Int32 × GS) :=
  if x7 = (255 : Int32) then ckT σ 4 x4 ((x_X5_isStatic σ x4).bind fun r3 => if r3 = 0 then x_checkMethods_293 fu σ x0 x5 else x_checkMethods_304 fu k15 σ x0 x1 x2 x3 x4 x5) else x_checkMethods_304 fu k15 σ x0 x1 x2 x3 x4 x5
noncomputable def x_checkMethods_239 (fu : Nat) (k15 : GS → Nat → Nat → Int32 → Int32 → Option (Int32 × GS)) (σ : GS) (x0 : Nat) (x1 : Nat) (x2 : Int32) (x3 : Int32) (x4 : Nat) (x5 : Int32) (t0 : Int32) : Option (Int32 × GS) :=
  if t0 < 0 then x_checkMethods_293 fu σ x0 x5 else ckT σ 4 x4 ((x_X5_isInit fu σ x4).bind fun r3 => if r3 = 0 then x_checkMethods_277 fu k15 σ x0 x1 x2 x3 x4 x5 t0 else ckK σ 6 (gr σ x4 2) fun a6 => (x_J2_length σ a6).bind fun r9 => (x_J2_charAt σ a6 (r9 - (1 : Int32))).bind fun r11 => if r11 = (86 : Int32) then x_checkMethods_277 fu k15 σ x0 x1 x2 x3 x4 x5 t0 else x_checkMethods_293 fu σ x0 x5)
noncomputable def x_checkMethods_166 (fu : Nat) (k15 : GS → Nat → Nat → Int32 → Int32 → Option (Int32 × GS)) (σ : GS) (x0 : Nat) (x1 : Nat) (x2 : Int32) (x3 : Int32) (x4 : Nat) (x5 : Int32) (t0 : Int32) : Option (Int32 × GS) :=
  if t0 = 0 then ckT σ 1 x0 ((x_wrong σ x0 (24 : Int32) (x5 + (2 : Int32))).bind fun r23 => ckN .boolean r23.1 (some (r23.1, r23.2))) else (x_areMethodFlags fu σ x1 x4).bind fun r2 => if r2 = 0 then ckT σ 1 x0 ((x_wrong σ x0 (23 : Int32) x5).bind fun r19 => ckN .boolean r19.1 (some (r19.1, r19.2))) else ckT σ 1 x0 ((x_u2 σ x0 (x5 + (4 : Int32))).bind fun r6 => (x_textAt σ x1 r6).bind fun r8 => ckT σ 4 x4 (nx (gpr σ x4 2 r8) fun s11 => if (gr s11 x4 2) = none then x_checkMethods_239 fu k15 s11 x0 x1 x2 x3 x4 x5 (-1 : Int32) else ckR (gr s11 x4 2) fun a13 => (x_placesOf fu s11 a13).bind fun r16 => x_checkMethods_239 fu k15 s11 x0 x1 x2 x3 x4 x5 r16))
noncomputable def x_checkMethods_161 (fu : Nat) (k15 : GS → Nat → Nat → Int32 → Int32 → Option (Int32 × GS)) (σ : GS) (x0 : Nat) (x1 : Nat) (x2 : Int32) (x3 : Int32) (x4 : Nat) (x5 : Int32) : Option (Int32 × GS) :=
  x_checkMethods_166 fu k15 σ x0 x1 x2 x3 x4 x5 (1 : Int32)
noncomputable def x_checkMethods_165 (fu : Nat) (k15 : GS → Nat → Nat → Int32 → Int32 → Option (Int32 × GS)) (σ : GS) (x0 : Nat) (x1 : Nat) (x2 : Int32) (x3 : Int32) (x4 : Nat) (x5 : Int32) : Option (Int32 × GS) :=
  x_checkMethods_166 fu k15 σ x0 x1 x2 x3 x4 x5 (0 : Int32)
noncomputable def x_checkMethods_147 (fu : Nat) (k15 : GS → Nat → Nat → Int32 → Int32 → Option (Int32 × GS)) (σ : GS) (x0 : Nat) (x1 : Nat) (x2 : Int32) (x3 : Int32) (x4 : Nat) (x5 : Int32) : Option (Int32 × GS) :=
  ckT σ 4 x4 (ckK σ 6 (gr σ x4 1) fun a2 => (x_J2_equals fu σ a2 (gz σ 14)).bind fun r5 => if r5 = 0 then x_checkMethods_165 fu k15 σ x0 x1 x2 x3 x4 x5 else x_checkMethods_161 fu k15 σ x0 x1 x2 x3 x4 x5)
noncomputable def x_checkMethods_15 (fu : Nat) (k15 : GS → Nat → Nat → Int32 → Int32 → Option (Int32 × GS)) (σ : GS) (x0 : Nat) (x1 : Nat) (x2 : Int32) (x3 : Int32) : Option (Int32 × GS) :=
  if x2 ≤ x3 then some ((1 : Int32), σ) else ckC σ 22 (nx (gx σ) fun a3 => nx (gnew σ 4 0 22) fun s4 => (x_X5_init s4 a3).bind fun r6 => ckT r6 2 x1 (ckK r6 107 (gr r6 x1 13) fun a9 => ckT r6 4 a3 (ckIn x3 (gn r6 a9) (nx (gpr r6 a9 x3.toNatClampNeg (some a3)) fun s14 => nx (gpr s14 a3 0 (some x1)) fun s15 => ckT s15 1 x0 (nx (gi s15 x0 6) fun y17 => (x_u2 s15 x0 y17).bind fun r18 => nx (gpi s15 a3 5 r18) fun s20 => (x_u2 s20 x0 (y17 + (2 : Int32))).bind fun r21 => nx (gpi s20 a3 3 r21) fun s23 => (x_u2 s23 x0 (y17 + (4 : Int32))).bind fun r24 => nx (gpi s23 a3 4 r24) fun s26 => (x_u2 s26 x0 (y17 + (2 : Int32))).bind fun r27 => (x_textAt s26 x1 r27).bind fun r29 => nx (gpr s26 a3 1 r29) fun s31 => if (gr s31 a3 1) = none then x_checkMethods_165 fu k15 s31 x0 x1 x2 x3 a3 y17 else ckK s31 6 (gr s31 a3 1) fun a33 => (x_J2_length s31 a33).bind fun r36 => (x_isPlainName fu s31 a33 (0 : Int32) r36 (1 : Int32)).bind fun r38 => if r38 = 0 then (x_X5_isInit fu s31 a3).bind fun r41 => if r41 = 0 then x_checkMethods_147 fu k15 s31 x0 x1 x2 x3 a3 y17 else (x_X3_isFace s31 x1).bind fun r44 => if r44 = 0 then x_checkMethods_161 fu k15 s31 x0 x1 x2 x3 a3 y17 else x_checkMethods_147 fu k15 s31 x0 x1 x2 x3 a3 y17 else x_checkMethods_161 fu k15 s31 x0 x1 x2 x3 a3 y17)))))
noncomputable def x_checkMethods_15L (fu : Nat) (n : Nat) : GS → Nat → Nat → Int32 → Int32 → Option (Int32 × GS) := lpF (F := GS → Nat → Nat → Int32 → Int32 → Option (Int32 × GS)) (fun _ _ _ _ _ => none) (fun k => x_checkMethods_15 fu k) n
noncomputable def x_checkMethods_0 (fu : Nat) (σ : GS) (x0 : Nat) (x1 : Nat) : Option (Int32 × GS) :=
  ckT σ 1 x0 ((x_next2 σ x0).bind fun r2 => ckL r2.1 (ckC r2.2 r2.1.toNatClampNeg (nx (gx r2.2) fun a6 => nx (gnew r2.2 107 r2.1.toNatClampNeg r2.1.toNatClampNeg) fun s7 => ckT s7 2 x1 (nx (gpr s7 x1 13 (some a6)) fun s10 => x_checkMethods_15L fu fu s10 x0 x1 r2.1 (0 : Int32)))))
noncomputable def x_checkMethods (fu : Nat) (σ : GS) (x0 : Nat) (x1 : Nat) : Option (Int32 × GS) := x_checkMethods_0 fu σ x0 x1
noncomputable def x_checkRest_72 (fu : Nat) (k15 : GS → Nat → Nat → Int32 → Option (Int32 × GS)) (σ : GS) (x0 : Nat) (x1 : Nat) (x2 : Int32) : Option (Int32 × GS) :=
  nx (x2 + (1 : Int32)) fun y1 => k15 σ x0 x1 y1
noncomputable def x_checkRest_45 (fu : Nat) (k15 : GS → Nat → Nat → Int32 → Option (Int32 × GS)) (σ : GS) (x0 : Nat) (x1 : Nat) (x2 : Int32) : Option (Int32 × GS) :=
  ckT σ 2 x1 (ckK σ 100 (gr σ x1 8) fun a2 => ckIn x2 (gn σ a2) (ckK σ 108 (gr σ x1 21) fun a6 => if (gi σ a2 x2.toNatClampNeg) < (nI (gn σ a6)) then x_checkRest_72 fu k15 σ x0 x1 x2 else ckT σ 1 x0 (ckK σ 100 (gr σ x0 7) fun a11 => ckIn x2 (gn σ a11) ((x_wrong σ x0 (40 : Int32) (gi σ a11 x2.toNatClampNeg)).bind fun r15 => ckN .boolean r15.1 (some (r15.1, r15.2))))))
noncomputable def x_checkRest_15 (fu : Nat) (k15 : GS → Nat → Nat → Int32 → Option (Int32 × GS)) (σ : GS) (x0 : Nat) (x1 : Nat) (x2 : Int32) : Option (Int32 × GS) :=
  ckT σ 2 x1 (if (gi σ x1 6) ≤ x2 then some ((1 : Int32), σ) else ckK σ 101 (gr σ x1 7) fun a3 => ckIn x2 (gn σ a3) (if (gi σ a3 x2.toNatClampNeg) = (17 : Int32) then x_checkRest_45 fu k15 σ x0 x1 x2 else ckIn x2 (gn σ a3) (if (gi σ a3 x2.toNatClampNeg) = (18 : Int32) then x_checkRest_45 fu k15 σ x0 x1 x2 else x_checkRest_72 fu k15 σ x0 x1 x2)))
noncomputable def x_checkRest_15L (fu : Nat) (n : Nat) : GS → Nat → Nat → Int32 → Option (Int32 × GS) := lpF (F := GS → Nat → Nat → Int32 → Option (Int32 × GS)) (fun _ _ _ _ => none) (fun k => x_checkRest_15 fu k) n
noncomputable def x_checkRest_0 (fu : Nat) (σ : GS) (x0 : Nat) (x1 : Nat) : Option (Int32 × GS) :=
  ckT σ 1 x0 ((x_attributes fu σ x0 x1 (3 : Int32) none none).bind fun r2 => if r2.1 = 0 then some ((0 : Int32), r2.2) else x_checkRest_15L fu fu r2.2 x0 x1 (1 : Int32))
noncomputable def x_checkRest (fu : Nat) (σ : GS) (x0 : Nat) (x1 : Nat) : Option (Int32 × GS) := x_checkRest_0 fu σ x0 x1
noncomputable def x_read_81 (fu : Nat) (σ : GS) (x0 : Nat) : Option (Int32 × GS) :=
  ckT σ 1 x0 (some (gi σ x0 3, σ))
noncomputable def x_read_64 (fu : Nat) (σ : GS) (x0 : Nat) (x1 : Option Nat) (t0 : Int32) : Option (Int32 × GS) :=
  ckL (0 : Int32) (ckC σ (0 : Int32).toNatClampNeg (nx (gx σ) fun a3 => nx (gnew σ 101 (0 : Int32).toNatClampNeg (0 : Int32).toNatClampNeg) fun s4 => ckT s4 1 x0 (nx (gpr s4 x0 2 (some a3)) fun s7 => if t0 = 0 then x_read_81 fu s7 x0 else nx (gpr s7 x0 5 x1) fun s9 => x_read_81 fu s9 x0)))
noncomputable def x_read_63 (fu : Nat) (σ : GS) (x0 : Nat) (x1 : Option Nat) : Option (Int32 × GS) :=
  x_read_64 fu σ x0 x1 (0 : Int32)
noncomputable def x_read_0 (fu : Nat) (σ : GS) (x0 : Nat) : Option (Int32 × GS) :=
  ckT σ 1 x0 (nx (gpi σ x0 3 (0 : Int32)) fun s2 => nx (gpi s2 x0 4 (-1 : Int32)) fun s3 => (x_structure fu s3 x0).bind fun r4 => if r4.1 = none then x_read_63 fu r4.2 x0 r4.1 else ckT r4.2 1 x0 (ckR r4.1 fun a8 => (x_checkPool fu r4.2 x0 a8).bind fun r11 => if r11.1 = 0 then x_read_63 fu r11.2 x0 r4.1 else ckT r11.2 1 x0 ((x_checkHead fu r11.2 x0 a8).bind fun r15 => if r15.1 = 0 then x_read_63 fu r15.2 x0 r4.1 else ckT r15.2 1 x0 ((x_checkFields fu r15.2 x0 a8).bind fun r19 => if r19.1 = 0 then x_read_63 fu r19.2 x0 r4.1 else ckT r19.2 1 x0 ((x_checkMethods fu r19.2 x0 a8).bind fun r23 => if r23.1 = 0 then x_read_63 fu r23.2 x0 r4.1 else ckT r23.2 1 x0 ((x_checkRest fu r23.2 x0 a8).bind fun r27 => if r27.1 = 0 then x_read_63 fu r27.2 x0 r4.1 else x_read_64 fu r27.2 x0 r4.1 (1 : Int32)))))))
noncomputable def x_read (fu : Nat) (σ : GS) (x0 : Nat) : Option (Int32 × GS) := x_read_0 fu σ x0
noncomputable def x_place_0 (σ : GS) (x0 : Nat) : Option Int32 :=
  ckT σ 1 x0 (some (gi σ x0 4))
noncomputable def x_place (σ : GS) (x0 : Nat) : Option Int32 := x_place_0 σ x0
noncomputable def x_isEntry_26 (σ : GS) : Option Int32 :=
  some (0 : Int32)
noncomputable def x_isEntry_0 (σ : GS) (x0 : Nat) (x1 : Int32) : Option Int32 :=
  ckT σ 1 x0 (if (gr σ x0 5) = none then x_isEntry_26 σ else if x1 < 0 then x_isEntry_26 σ else ckK σ 2 (gr σ x0 5) fun a4 => if (gi σ a4 6) ≤ x1 then x_isEntry_26 σ else some (1 : Int32))
noncomputable def x_isEntry (σ : GS) (x0 : Nat) (x1 : Int32) : Option Int32 := x_isEntry_0 σ x0 x1
noncomputable def x_bits_47 (σ : GS) : Option Int64 :=
  some (0 : Int64)
noncomputable def x_bits_0 (σ : GS) (x0 : Nat) (x1 : Int32) : Option Int64 :=
  ckT σ 1 x0 ((x_isEntry σ x0 x1).bind fun r2 => if r2 = 0 then x_bits_47 σ else ckK σ 2 (gr σ x0 5) fun a5 => ckK σ 101 (gr σ a5 7) fun a8 => ckIn x1 (gn σ a8) (if (gi σ a8 x1.toNatClampNeg) < (3 : Int32) then x_bits_47 σ else ckIn x1 (gn σ a8) (if (6 : Int32) < (gi σ a8 x1.toNatClampNeg) then x_bits_47 σ else ckK σ 104 (gr σ a5 10) fun a15 => ckIn x1 (gn σ a15) (some (gl σ a15 x1.toNatClampNeg)))))
noncomputable def x_bits (σ : GS) (x0 : Nat) (x1 : Int32) : Option Int64 := x_bits_0 σ x0 x1
noncomputable def x_textOf_33 (σ : GS) : Option (Option Nat) :=
  some none
noncomputable def x_textOf_0 (σ : GS) (x0 : Nat) (x1 : Int32) : Option (Option Nat) :=
  ckT σ 1 x0 ((x_isEntry σ x0 x1).bind fun r2 => if r2 = 0 then x_textOf_33 σ else ckK σ 2 (gr σ x0 5) fun a5 => ckK σ 101 (gr σ a5 7) fun a8 => ckIn x1 (gn σ a8) (if (gi σ a8 x1.toNatClampNeg) = (1 : Int32) then ckK σ 105 (gr σ a5 11) fun a13 => ckIn x1 (gn σ a13) (some (gr σ a13 x1.toNatClampNeg)) else x_textOf_33 σ))
noncomputable def x_textOf (σ : GS) (x0 : Nat) (x1 : Int32) : Option (Option Nat) := x_textOf_0 σ x0 x1
noncomputable def x_character_22 (σ : GS) : Option Int32 :=
  some (-1 : Int32)
noncomputable def x_character_0 (σ : GS) (x0 : Nat) (x1 : Int32) (x2 : Int32) : Option Int32 :=
  ckT σ 1 x0 ((x_textOf σ x0 x1).bind fun r2 => if r2 = none then x_character_22 σ else if x2 < 0 then x_character_22 σ else ckK σ 6 r2 fun a6 => (x_J2_length σ a6).bind fun r9 => if x2 < r9 then (x_J2_charAt σ a6 x2).bind fun r12 => some r12 else x_character_22 σ)
noncomputable def x_character (σ : GS) (x0 : Nat) (x1 : Int32) (x2 : Int32) : Option Int32 := x_character_0 σ x0 x1 x2
noncomputable def x_places_110 (fu : Nat) (σ : GS) (t0 : Int32) (t1 : Int32) (t2 : Int32) : Option Int32 :=
  some (t2 + (t1 * t0))
noncomputable def x_places_50 (fu : Nat) (σ : GS) (k50 : Option Nat → Int32 → Int32 → Option Int32) (x2 : Option Nat) (x3 : Int32) (x4 : Int32) : Option Int32 :=
  ckK σ 6 x2 fun a1 => (x_J2_charAt σ a1 x4).bind fun r4 => if r4 = (41 : Int32) then (x_kindAt fu σ a1 (x4 + (1 : Int32))).bind fun r7 => if r7 = (9 : Int32) then x_places_110 fu σ (0 : Int32) (1024 : Int32) x3 else (x_isTwo σ r7).bind fun r10 => if r10 = 0 then x_places_110 fu σ (1 : Int32) (1024 : Int32) x3 else x_places_110 fu σ (2 : Int32) (1024 : Int32) x3 else (x_endOfType fu σ a1 x4).bind fun r13 => k50 x2 x3 r13
noncomputable def x_places_50L (fu : Nat) (σ : GS) (n : Nat) : Option Nat → Int32 → Int32 → Option Int32 := lpF (F := Option Nat → Int32 → Int32 → Option Int32) (fun _ _ _ => none) (fun k => x_places_50 fu σ k) n
noncomputable def x_places_0 (fu : Nat) (σ : GS) (x0 : Nat) (x1 : Int32) : Option Int32 :=
  ckT σ 1 x0 ((x_textOf σ x0 x1).bind fun r2 => if r2 = none then some (-1 : Int32) else ckR r2 fun a5 => (x_isFieldType fu σ a5).bind fun r8 => if r8 = 0 then (x_placesOf fu σ a5).bind fun r11 => if 0 ≤ r11 then x_places_50L fu σ fu r2 r11 (1 : Int32) else some (-1 : Int32) else (x_kindAt fu σ a5 (0 : Int32)).bind fun r14 => (x_isTwo σ r14).bind fun r16 => if r16 = 0 then some (1 : Int32) else some (2 : Int32))
noncomputable def x_places (fu : Nat) (σ : GS) (x0 : Nat) (x1 : Int32) : Option Int32 := x_places_0 fu σ x0 x1
noncomputable def x_find_154 (fu : Nat) (σ : GS) (k54 : Nat → Int32 → Option Nat → Option Nat → Int32 → Int32 → Option Int32) (x0 : Nat) (x1 : Int32) (x4 : Option Nat) (x5 : Option Nat) (x6 : Int32) (x7 : Int32) : Option Int32 :=
  nx (x7 + (1 : Int32)) fun y1 => k54 x0 x1 x4 x5 x6 y1
noncomputable def x_find_129 (fu : Nat) (σ : GS) (k54 : Nat → Int32 → Option Nat → Option Nat → Int32 → Int32 → Option Int32) (x0 : Nat) (x1 : Int32) (x4 : Option Nat) (x5 : Option Nat) (x6 : Int32) (x7 : Int32) (x8 : Option Nat) (t0 : Option Nat) : Option Int32 :=
  ckK σ 6 x8 fun a1 => ckR x4 fun a4 => (x_J2_equals fu σ a1 a4).bind fun r7 => if r7 = 0 then x_find_154 fu σ k54 x0 x1 x4 x5 x6 x7 else ckK σ 6 t0 fun a10 => ckR x5 fun a13 => (x_J2_equals fu σ a10 a13).bind fun r16 => if r16 = 0 then x_find_154 fu σ k54 x0 x1 x4 x5 x6 x7 else some x7
noncomputable def x_find_94 (fu : Nat) (σ : GS) (k54 : Nat → Int32 → Option Nat → Option Nat → Int32 → Int32 → Option Int32) (x0 : Nat) (x1 : Int32) (x4 : Option Nat) (x5 : Option Nat) (x6 : Int32) (x7 : Int32) (t0 : Option Nat) : Option Int32 :=
  if x1 = 0 then ckT σ 1 x0 (ckK σ 2 (gr σ x0 5) fun a3 => ckK σ 106 (gr σ a3 12) fun a6 => ckIn x7 (gn σ a6) (ckK σ 3 (gr σ a6 x7.toNatClampNeg) fun a10 => x_find_129 fu σ k54 x0 x1 x4 x5 x6 x7 t0 (gr σ a10 1))) else ckT σ 1 x0 (ckK σ 2 (gr σ x0 5) fun a14 => ckK σ 107 (gr σ a14 13) fun a17 => ckIn x7 (gn σ a17) (ckK σ 4 (gr σ a17 x7.toNatClampNeg) fun a21 => x_find_129 fu σ k54 x0 x1 x4 x5 x6 x7 t0 (gr σ a21 2)))
noncomputable def x_find_54 (fu : Nat) (σ : GS) (k54 : Nat → Int32 → Option Nat → Option Nat → Int32 → Int32 → Option Int32) (x0 : Nat) (x1 : Int32) (x4 : Option Nat) (x5 : Option Nat) (x6 : Int32) (x7 : Int32) : Option Int32 :=
  if x6 ≤ x7 then some (-1 : Int32) else if x1 = 0 then ckT σ 1 x0 (ckK σ 2 (gr σ x0 5) fun a4 => ckK σ 106 (gr σ a4 12) fun a7 => ckIn x7 (gn σ a7) (ckK σ 3 (gr σ a7 x7.toNatClampNeg) fun a11 => x_find_94 fu σ k54 x0 x1 x4 x5 x6 x7 (gr σ a11 0))) else ckT σ 1 x0 (ckK σ 2 (gr σ x0 5) fun a15 => ckK σ 107 (gr σ a15 13) fun a18 => ckIn x7 (gn σ a18) (ckK σ 4 (gr σ a18 x7.toNatClampNeg) fun a22 => x_find_94 fu σ k54 x0 x1 x4 x5 x6 x7 (gr σ a22 1)))
noncomputable def x_find_54L (fu : Nat) (σ : GS) (n : Nat) : Nat → Int32 → Option Nat → Option Nat → Int32 → Int32 → Option Int32 := lpF (F := Nat → Int32 → Option Nat → Option Nat → Int32 → Int32 → Option Int32) (fun _ _ _ _ _ _ => none) (fun k => x_find_54 fu σ k) n
noncomputable def x_find_49 (fu : Nat) (σ : GS) (x0 : Nat) (x1 : Int32) (x4 : Option Nat) (x5 : Option Nat) (t0 : Int32) : Option Int32 :=
  x_find_54L fu σ fu x0 x1 x4 x5 t0 (0 : Int32)
noncomputable def x_find_0 (fu : Nat) (σ : GS) (x0 : Nat) (x1 : Int32) (x2 : Int32) (x3 : Int32) : Option Int32 :=
  ckT σ 1 x0 ((x_textOf σ x0 x2).bind fun r2 => (x_textOf σ x0 x3).bind fun r4 => if r2 = none then some (-1 : Int32) else if r4 = none then some (-1 : Int32) else if x1 = 0 then ckK σ 2 (gr σ x0 5) fun a9 => ckK σ 106 (gr σ a9 12) fun a12 => x_find_49 fu σ x0 x1 r2 r4 (nI (gn σ a12)) else ckK σ 2 (gr σ x0 5) fun a15 => ckK σ 107 (gr σ a15 13) fun a18 => x_find_49 fu σ x0 x1 r2 r4 (nI (gn σ a18)))
noncomputable def x_find (fu : Nat) (σ : GS) (x0 : Nat) (x1 : Int32) (x2 : Int32) (x3 : Int32) : Option Int32 := x_find_0 fu σ x0 x1 x2 x3
noncomputable def x_bootstrap_0 (σ : GS) (x0 : Nat) (x1 : Int32) (x2 : Int32) : Option Int32 :=
  ckT σ 1 x0 (if (gr σ x0 5) = none then some (-1 : Int32) else if x1 < 0 then some (-1 : Int32) else ckK σ 2 (gr σ x0 5) fun a4 => ckK σ 108 (gr σ a4 21) fun a7 => if (nI (gn σ a7)) ≤ x1 then some (-1 : Int32) else if x2 < 0 then some (-1 : Int32) else ckIn x1 (gn σ a7) (ckK σ 100 (gr σ a7 x1.toNatClampNeg) fun a13 => if x2 < (nI (gn σ a13)) then ckIn x1 (gn σ a7) (ckIn x2 (gn σ a13) (some (gi σ a13 x2.toNatClampNeg))) else some (-1 : Int32)))
noncomputable def x_bootstrap (σ : GS) (x0 : Nat) (x1 : Int32) (x2 : Int32) : Option Int32 := x_bootstrap_0 σ x0 x1 x2
noncomputable def x_methodAt_23 (σ : GS) : Option (Option Nat) :=
  some none
noncomputable def x_methodAt_0 (σ : GS) (x0 : Nat) (x1 : Int32) : Option (Option Nat) :=
  ckT σ 1 x0 (if (gr σ x0 5) = none then x_methodAt_23 σ else if x1 < 0 then x_methodAt_23 σ else ckK σ 2 (gr σ x0 5) fun a4 => ckK σ 107 (gr σ a4 13) fun a7 => if x1 < (nI (gn σ a7)) then ckIn x1 (gn σ a7) (some (gr σ a7 x1.toNatClampNeg)) else x_methodAt_23 σ)
noncomputable def x_methodAt (σ : GS) (x0 : Nat) (x1 : Int32) : Option (Option Nat) := x_methodAt_0 σ x0 x1
noncomputable def x_codeU1_0 (σ : GS) (x0 : Nat) (x1 : Int32) : Option Int32 :=
  ckT σ 4 x0 (ckK σ 101 (gr σ x0 11) fun a2 => ckIn x1 (gn σ a2) (some ((gi σ a2 x1.toNatClampNeg) &&& (255 : Int32))))
noncomputable def x_codeU1 (σ : GS) (x0 : Nat) (x1 : Int32) : Option Int32 := x_codeU1_0 σ x0 x1
noncomputable def x_operands_223 (σ : GS) : Option Int32 :=
  some (-1 : Int32)
noncomputable def x_operands_117 (σ : GS) (x0 : Int32) : Option Int32 :=
  if x0 = (187 : Int32) then some (2 : Int32) else if x0 = (189 : Int32) then some (2 : Int32) else if x0 = (192 : Int32) then some (2 : Int32) else if x0 = (193 : Int32) then some (2 : Int32) else if x0 = (198 : Int32) then some (2 : Int32) else if x0 = (199 : Int32) then some (2 : Int32) else if x0 = (185 : Int32) then some (4 : Int32) else if x0 = (186 : Int32) then some (4 : Int32) else if x0 = (200 : Int32) then some (4 : Int32) else if x0 = (201 : Int32) then some (4 : Int32) else if x0 = (197 : Int32) then some (3 : Int32) else if x0 = (170 : Int32) then x_operands_223 σ else if x0 = (171 : Int32) then x_operands_223 σ else if x0 = (196 : Int32) then x_operands_223 σ else some (0 : Int32)
noncomputable def x_operands_101 (σ : GS) (x0 : Int32) : Option Int32 :=
  if x0 < (178 : Int32) then x_operands_117 σ x0 else if (184 : Int32) < x0 then x_operands_117 σ x0 else some (2 : Int32)
noncomputable def x_operands_46 (σ : GS) (x0 : Int32) : Option Int32 :=
  if x0 = (169 : Int32) then some (1 : Int32) else if x0 = (188 : Int32) then some (1 : Int32) else if x0 = (17 : Int32) then some (2 : Int32) else if x0 = (19 : Int32) then some (2 : Int32) else if x0 = (20 : Int32) then some (2 : Int32) else if x0 = (132 : Int32) then some (2 : Int32) else if x0 < (153 : Int32) then x_operands_101 σ x0 else if x0 ≤ (168 : Int32) then some (2 : Int32) else x_operands_101 σ x0
noncomputable def x_operands_34 (σ : GS) (x0 : Int32) : Option Int32 :=
  if x0 < (54 : Int32) then x_operands_46 σ x0 else if x0 ≤ (58 : Int32) then some (1 : Int32) else x_operands_46 σ x0
noncomputable def x_operands_0 (σ : GS) (x0 : Int32) : Option Int32 :=
  if x0 ≤ (201 : Int32) then if x0 = (16 : Int32) then some (1 : Int32) else if x0 = (18 : Int32) then some (1 : Int32) else if x0 < (21 : Int32) then x_operands_34 σ x0 else if x0 ≤ (25 : Int32) then some (1 : Int32) else x_operands_34 σ x0 else some (-2 : Int32)
noncomputable def x_operands (σ : GS) (x0 : Int32) : Option Int32 := x_operands_0 σ x0
noncomputable def x_isLocalOp_38 (σ : GS) : Option Int32 :=
  some (1 : Int32)
noncomputable def x_isLocalOp_24 (σ : GS) (x0 : Int32) : Option Int32 :=
  if x0 = (132 : Int32) then x_isLocalOp_38 σ else if x0 = (169 : Int32) then x_isLocalOp_38 σ else some (0 : Int32)
noncomputable def x_isLocalOp_12 (σ : GS) (x0 : Int32) : Option Int32 :=
  if x0 < (54 : Int32) then x_isLocalOp_24 σ x0 else if x0 ≤ (58 : Int32) then x_isLocalOp_38 σ else x_isLocalOp_24 σ x0
noncomputable def x_isLocalOp_0 (σ : GS) (x0 : Int32) : Option Int32 :=
  if x0 < (21 : Int32) then x_isLocalOp_12 σ x0 else if x0 ≤ (25 : Int32) then x_isLocalOp_38 σ else x_isLocalOp_12 σ x0
noncomputable def x_isLocalOp (σ : GS) (x0 : Int32) : Option Int32 := x_isLocalOp_0 σ x0
noncomputable def x_codeU2_0 (σ : GS) (x0 : Nat) (x1 : Int32) : Option Int32 :=
  ckT σ 4 x0 (ckK σ 101 (gr σ x0 11) fun a2 => ckIn x1 (gn σ a2) (ckIn (x1 + (1 : Int32)) (gn σ a2) (some ((((gi σ a2 x1.toNatClampNeg) &&& (255 : Int32)) <<< ((8 : Int32) &&& 31)) ||| ((gi σ a2 (x1 + (1 : Int32)).toNatClampNeg) &&& (255 : Int32))))))
noncomputable def x_codeU2 (σ : GS) (x0 : Nat) (x1 : Int32) : Option Int32 := x_codeU2_0 σ x0 x1
noncomputable def x_codeS2_0 (σ : GS) (x0 : Nat) (x1 : Int32) : Option Int32 :=
  ckT σ 4 x0 (ckK σ 101 (gr σ x0 11) fun a2 => ckIn x1 (gn σ a2) (ckIn (x1 + (1 : Int32)) (gn σ a2) (some (((gi σ a2 x1.toNatClampNeg) <<< ((8 : Int32) &&& 31)) ||| ((gi σ a2 (x1 + (1 : Int32)).toNatClampNeg) &&& (255 : Int32))))))
noncomputable def x_codeS2 (σ : GS) (x0 : Nat) (x1 : Int32) : Option Int32 := x_codeS2_0 σ x0 x1
noncomputable def x_isTwoLocal_24 (σ : GS) : Option Int32 :=
  some (1 : Int32)
noncomputable def x_isTwoLocal_0 (σ : GS) (x0 : Int32) : Option Int32 :=
  if x0 = (22 : Int32) then x_isTwoLocal_24 σ else if x0 = (24 : Int32) then x_isTwoLocal_24 σ else if x0 = (55 : Int32) then x_isTwoLocal_24 σ else if x0 = (57 : Int32) then x_isTwoLocal_24 σ else some (0 : Int32)
noncomputable def x_isTwoLocal (σ : GS) (x0 : Int32) : Option Int32 := x_isTwoLocal_0 σ x0
noncomputable def x_cutWide_145 (σ : GS) (x1 : Nat) (t0 : Int32) (t1 : Int32) : Option (Int32 × GS) :=
  ckT σ 4 x1 (if (gi σ x1 9) < (t1 + t0) then some ((0 : Int32), σ) else some ((1 : Int32), σ))
noncomputable def x_cutWide_126 (σ : GS) (x1 : Nat) (x2 : Int32) (x4 : Int32) : Option (Int32 × GS) :=
  ckT σ 4 x1 (ckK σ 100 (gr σ x1 18) fun a2 => ckIn x2 (gn σ a2) ((x_isTwoLocal σ x4).bind fun r6 => if r6 = 0 then x_cutWide_145 σ x1 (1 : Int32) (gi σ a2 x2.toNatClampNeg) else x_cutWide_145 σ x1 (2 : Int32) (gi σ a2 x2.toNatClampNeg)))
noncomputable def x_cutWide_84 (σ : GS) (x1 : Nat) (x2 : Int32) (x3 : Int32) (x4 : Int32) : Option (Int32 × GS) :=
  ckT σ 4 x1 (ckK σ 100 (gr σ x1 17) fun a2 => ckIn x2 (gn σ a2) (nx (gpi σ a2 x2.toNatClampNeg x4) fun s6 => (x_codeU2 s6 x1 (x3 + (2 : Int32))).bind fun r7 => ckK s6 100 (gr s6 x1 18) fun a9 => ckIn x2 (gn s6 a9) (nx (gpi s6 a9 x2.toNatClampNeg r7) fun s13 => if x4 = (132 : Int32) then (x_codeS2 s13 x1 (x3 + (4 : Int32))).bind fun r15 => ckK s13 100 (gr s13 x1 19) fun a17 => ckIn x2 (gn s13 a17) (nx (gpi s13 a17 x2.toNatClampNeg r15) fun s21 => x_cutWide_126 s21 x1 x2 x4) else x_cutWide_126 s13 x1 x2 x4)))
noncomputable def x_cutWide_38 (σ : GS) (x0 : Nat) (x1 : Nat) (x2 : Int32) (x3 : Int32) (x4 : Int32) (t0 : Int32) (t1 : Int32) (t2 : Nat) : Option (Int32 × GS) :=
  ckT σ 1 t2 (nx (gpi σ t2 12 (t1 + t0)) fun s2 => (x_isLocalOp s2 x4).bind fun r3 => if r3 = 0 then some ((0 : Int32), s2) else ckT s2 1 x0 (ckT s2 4 x1 (ckK s2 101 (gr s2 x1 11) fun a8 => if (nI (gn s2 a8)) < (gi s2 x0 12) then some ((0 : Int32), s2) else if x4 = (169 : Int32) then ckK s2 2 (gr s2 x1 0) fun a13 => if (gi s2 a13 1) < (51 : Int32) then x_cutWide_84 s2 x1 x2 x3 x4 else some ((0 : Int32), s2) else x_cutWide_84 s2 x1 x2 x3 x4)))
noncomputable def x_cutWide_0 (σ : GS) (x0 : Nat) (x1 : Nat) (x2 : Int32) (x3 : Int32) : Option (Int32 × GS) :=
  ckT σ 4 x1 (ckK σ 101 (gr σ x1 11) fun a2 => if (x3 + (2 : Int32)) ≤ (nI (gn σ a2)) then (x_codeU1 σ x1 (x3 + (1 : Int32))).bind fun r6 => if r6 = (132 : Int32) then x_cutWide_38 σ x0 x1 x2 x3 r6 (6 : Int32) x3 x0 else x_cutWide_38 σ x0 x1 x2 x3 r6 (4 : Int32) x3 x0 else some ((0 : Int32), σ))
noncomputable def x_cutWide (σ : GS) (x0 : Nat) (x1 : Nat) (x2 : Int32) (x3 : Int32) : Option (Int32 × GS) := x_cutWide_0 σ x0 x1 x2 x3
noncomputable def x_codeS4_0 (σ : GS) (x0 : Nat) (x1 : Int32) : Option Int32 :=
  (x_codeU2 σ x0 x1).bind fun r1 => (x_codeU2 σ x0 (x1 + (2 : Int32))).bind fun r3 => some ((r1 <<< ((16 : Int32) &&& 31)) ||| r3)
noncomputable def x_codeS4 (σ : GS) (x0 : Nat) (x1 : Int32) : Option Int32 := x_codeS4_0 σ x0 x1
noncomputable def x_cutSwitch_177 (fu : Nat) (k177 : GS → Nat → Nat → Int32 → Nat → Int32 → Int32 → Int64 → Nat → Int32 → Option (Int32 × GS)) (σ : GS) (x0 : Nat) (x1 : Nat) (x2 : Int32) (x4 : Nat) (x6 : Int32) (x9 : Int32) (x11 : Int64) (x13 : Nat) (x14 : Int32) : Option (Int32 × GS) :=
  if 0 < (lg_cmp x14.toInt64 x11) then ckT σ 108 x4 (ckT σ 100 x13 (ckIn x2 (gn σ x4) (nx (gpr σ x4 x2.toNatClampNeg (some x13)) fun s5 => ckT s5 4 x1 (ckK s5 100 (gr s5 x1 18) fun a7 => ckIn x2 (gn s5 a7) (nx (gpi s5 a7 x2.toNatClampNeg x9) fun s11 => ckT s11 1 x0 (nx (gpi s11 x0 12 ((x6 + (12 : Int32)) + ((4 : Int32) * x11.toInt32))) fun s13 => some ((1 : Int32), s13))))))) else (x_codeS4 σ x1 ((x6 + (8 : Int32)) + ((4 : Int32) * x14))).bind fun r14 => ckT σ 100 x13 (ckIn x14 (gn σ x13) (nx (gpi σ x13 x14.toNatClampNeg r14) fun s18 => nx (x14 + (1 : Int32)) fun y19 => k177 s18 x0 x1 x2 x4 x6 x9 x11 x13 y19))
noncomputable def x_cutSwitch_177L (fu : Nat) (n : Nat) : GS → Nat → Nat → Int32 → Nat → Int32 → Int32 → Int64 → Nat → Int32 → Option (Int32 × GS) := lpF (F := GS → Nat → Nat → Int32 → Nat → Int32 → Int32 → Int64 → Nat → Int32 → Option (Int32 × GS)) (fun _ _ _ _ _ _ _ _ _ _ => none) (fun k => x_cutSwitch_177 fu k) n
noncomputable def x_cutSwitch_372 (fu : Nat) (k289 : GS → Nat → Nat → Int32 → Nat → Int32 → Int32 → Nat → Int32 → Option (Int32 × GS)) (σ : GS) (x0 : Nat) (x1 : Nat) (x2 : Int32) (x4 : Nat) (x6 : Int32) (x9 : Int32) (x10 : Nat) (x11 : Int32) : Option (Int32 × GS) :=
  nx (x11 + (1 : Int32)) fun y1 => k289 σ x0 x1 x2 x4 x6 x9 x10 y1
noncomputable def x_cutSwitch_289 (fu : Nat) (k289 : GS → Nat → Nat → Int32 → Nat → Int32 → Int32 → Nat → Int32 → Option (Int32 × GS)) (σ : GS) (x0 : Nat) (x1 : Nat) (x2 : Int32) (x4 : Nat) (x6 : Int32) (x9 : Int32) (x10 : Nat) (x11 : Int32) : Option (Int32 × GS) :=
  if x9 ≤ x11 then ckT σ 108 x4 (ckT σ 100 x10 (ckIn x2 (gn σ x4) (nx (gpr σ x4 x2.toNatClampNeg (some x10)) fun s5 => ckT s5 1 x0 (nx (gpi s5 x0 12 ((x6 + (8 : Int32)) + ((8 : Int32) * x9))) fun s7 => some ((1 : Int32), s7))))) else (x_codeS4 σ x1 ((x6 + (8 : Int32)) + ((8 : Int32) * x11))).bind fun r8 => ckT σ 100 x10 (ckIn (((2 : Int32) * x11) + (1 : Int32)) (gn σ x10) (nx (gpi σ x10 (((2 : Int32) * x11) + (1 : Int32)).toNatClampNeg r8) fun s12 => (x_codeS4 s12 x1 ((x6 + (12 : Int32)) + ((8 : Int32) * x11))).bind fun r13 => ckIn (((2 : Int32) * x11) + (2 : Int32)) (gn s12 x10) (nx (gpi s12 x10 (((2 : Int32) * x11) + (2 : Int32)).toNatClampNeg r13) fun s16 => if x11 ≤ 0 then x_cutSwitch_372 fu k289 s16 x0 x1 x2 x4 x6 x9 x10 x11 else ckIn (((2 : Int32) * x11) + (1 : Int32)) (gn s16 x10) (ckIn (((2 : Int32) * x11) - (1 : Int32)) (gn s16 x10) (if (gi s16 x10 (((2 : Int32) * x11) - (1 : Int32)).toNatClampNeg) < (gi s16 x10 (((2 : Int32) * x11) + (1 : Int32)).toNatClampNeg) then x_cutSwitch_372 fu k289 s16 x0 x1 x2 x4 x6 x9 x10 x11 else some ((0 : Int32), s16))))))
noncomputable def x_cutSwitch_289L (fu : Nat) (n : Nat) : GS → Nat → Nat → Int32 → Nat → Int32 → Int32 → Nat → Int32 → Option (Int32 × GS) := lpF (F := GS → Nat → Nat → Int32 → Nat → Int32 → Int32 → Nat → Int32 → Option (Int32 × GS)) (fun _ _ _ _ _ _ _ _ _ => none) (fun k => x_cutSwitch_289 fu k) n
noncomputable def x_cutSwitch_77 (fu : Nat) (σ : GS) (x0 : Nat) (x1 : Nat) (x2 : Int32) (x4 : Nat) (x5 : Int32) (x6 : Int32) (x7 : Int32) (t0 : Int32) (t1 : Int32) : Option (Int32 × GS) :=
  if (t1 + t0) ≤ x5 then (x_codeS4 σ x1 x6).bind fun r2 => (x_codeS4 σ x1 (x6 + (4 : Int32))).bind fun r4 => if x7 = 0 then if r4 < 0 then some ((0 : Int32), σ) else if (lg_cmp (((x6 + (8 : Int32)).toInt64) + ((8 : Int64) * r4.toInt64)) x5.toInt64) ≤ 0 then ckL (((2 : Int32) * r4) + (1 : Int32)) (ckC σ (((2 : Int32) * r4) + (1 : Int32)).toNatClampNeg (nx (gx σ) fun a11 => nx (gnew σ 100 (((2 : Int32) * r4) + (1 : Int32)).toNatClampNeg (((2 : Int32) * r4) + (1 : Int32)).toNatClampNeg) fun s12 => ckIn (0 : Int32) (gn s12 a11) (nx (gpi s12 a11 (0 : Int32).toNatClampNeg r2) fun s15 => x_cutSwitch_289L fu fu s15 x0 x1 x2 x4 x6 r4 a11 (0 : Int32)))) else some ((0 : Int32), σ) else (x_codeS4 σ x1 (x6 + (8 : Int32))).bind fun r16 => nx ((r16.toInt64 - r4.toInt64) + (1 : Int64)) fun y18 => if (lg_cmp y18 (1 : Int64)) < 0 then some ((0 : Int32), σ) else if (lg_cmp (((x6 + (12 : Int32)).toInt64) + ((4 : Int64) * y18)) x5.toInt64) ≤ 0 then ckL (y18.toInt32 + (1 : Int32)) (ckC σ (y18.toInt32 + (1 : Int32)).toNatClampNeg (nx (gx σ) fun a23 => nx (gnew σ 100 (y18.toInt32 + (1 : Int32)).toNatClampNeg (y18.toInt32 + (1 : Int32)).toNatClampNeg) fun s24 => ckIn (0 : Int32) (gn s24 a23) (nx (gpi s24 a23 (0 : Int32).toNatClampNeg r2) fun s27 => x_cutSwitch_177L fu fu s27 x0 x1 x2 x4 x6 r4 y18 a23 (1 : Int32)))) else some ((0 : Int32), σ) else some ((0 : Int32), σ)
noncomputable def x_cutSwitch_61 (fu : Nat) (σ : GS) (x0 : Nat) (x1 : Nat) (x2 : Int32) (x4 : Nat) (x5 : Int32) (x6 : Int32) (t0 : Int32) : Option (Int32 × GS) :=
  if t0 = 0 then x_cutSwitch_77 fu σ x0 x1 x2 x4 x5 x6 t0 (8 : Int32) x6 else x_cutSwitch_77 fu σ x0 x1 x2 x4 x5 x6 t0 (12 : Int32) x6
noncomputable def x_cutSwitch_12 (fu : Nat) (k12 : GS → Nat → Nat → Int32 → Nat → Int32 → Int32 → Option (Int32 × GS)) (σ : GS) (x0 : Nat) (x1 : Nat) (x2 : Int32) (x4 : Nat) (x5 : Int32) (x6 : Int32) : Option (Int32 × GS) :=
  ckD (4 : Int32) (if (x6 - x6 / (4 : Int32) * (4 : Int32)) = 0 then ckT σ 4 x1 (ckK σ 100 (gr σ x1 17) fun a4 => ckIn x2 (gn σ a4) (if (gi σ a4 x2.toNatClampNeg) = (170 : Int32) then x_cutSwitch_61 fu σ x0 x1 x2 x4 x5 x6 (1 : Int32) else x_cutSwitch_61 fu σ x0 x1 x2 x4 x5 x6 (0 : Int32))) else if x5 ≤ x6 then some ((0 : Int32), σ) else ckT σ 4 x1 (ckK σ 101 (gr σ x1 11) fun a11 => ckIn x6 (gn σ a11) (if (gi σ a11 x6.toNatClampNeg) = 0 then nx (x6 + (1 : Int32)) fun y16 => k12 σ x0 x1 x2 x4 x5 y16 else some ((0 : Int32), σ))))
noncomputable def x_cutSwitch_12L (fu : Nat) (n : Nat) : GS → Nat → Nat → Int32 → Nat → Int32 → Int32 → Option (Int32 × GS) := lpF (F := GS → Nat → Nat → Int32 → Nat → Int32 → Int32 → Option (Int32 × GS)) (fun _ _ _ _ _ _ _ => none) (fun k => x_cutSwitch_12 fu k) n
noncomputable def x_cutSwitch_0 (fu : Nat) (σ : GS) (x0 : Nat) (x1 : Nat) (x2 : Int32) (x3 : Int32) (x4 : Nat) : Option (Int32 × GS) :=
  ckT σ 4 x1 (ckK σ 101 (gr σ x1 11) fun a2 => nx (nI (gn σ a2)) fun y5 => nx (x3 + (1 : Int32)) fun y6 => x_cutSwitch_12L fu fu σ x0 x1 x2 x4 y5 y6)
noncomputable def x_cutSwitch (fu : Nat) (σ : GS) (x0 : Nat) (x1 : Nat) (x2 : Int32) (x3 : Int32) (x4 : Nat) : Option (Int32 × GS) := x_cutSwitch_0 fu σ x0 x1 x2 x3 x4
noncomputable def x_isJump_28 (σ : GS) : Option Int32 :=
  some (1 : Int32)
noncomputable def x_isJump_14 (σ : GS) (x0 : Int32) : Option Int32 :=
  if x0 = (198 : Int32) then x_isJump_28 σ else if x0 = (199 : Int32) then x_isJump_28 σ else some (0 : Int32)
noncomputable def x_isJump_0 (σ : GS) (x0 : Int32) : Option Int32 :=
  if x0 < (153 : Int32) then x_isJump_14 σ x0 else if x0 ≤ (168 : Int32) then x_isJump_28 σ else x_isJump_14 σ x0
noncomputable def x_isJump (σ : GS) (x0 : Int32) : Option Int32 := x_isJump_0 σ x0
noncomputable def x_dimensions_2 (fu : Nat) (σ : GS) (k2 : Nat → Int32 → Option Int32) (x0 : Nat) (x1 : Int32) : Option Int32 :=
  ckT σ 6 x0 ((x_J2_length σ x0).bind fun r2 => if r2 ≤ x1 then some x1 else (x_J2_charAt σ x0 x1).bind fun r5 => if r5 = (91 : Int32) then nx (x1 + (1 : Int32)) fun y8 => k2 x0 y8 else some x1)
noncomputable def x_dimensions_2L (fu : Nat) (σ : GS) (n : Nat) : Nat → Int32 → Option Int32 := lpF (F := Nat → Int32 → Option Int32) (fun _ _ => none) (fun k => x_dimensions_2 fu σ k) n
noncomputable def x_dimensions_0 (fu : Nat) (σ : GS) (x0 : Nat) : Option Int32 :=
  x_dimensions_2L fu σ fu x0 (0 : Int32)
noncomputable def x_dimensions (fu : Nat) (σ : GS) (x0 : Nat) : Option Int32 := x_dimensions_0 fu σ x0
noncomputable def x_isGoodEntry_213 (fu : Nat) (σ : GS) : Option Int32 :=
  some (0 : Int32)
noncomputable def x_isGoodEntry_273 (fu : Nat) (σ : GS) : Option Int32 :=
  some (1 : Int32)
noncomputable def x_isGoodEntry_277 (fu : Nat) (σ : GS) : Option Int32 :=
  some (0 : Int32)
noncomputable def x_isGoodEntry_264 (fu : Nat) (σ : GS) (x0 : Nat) : Option Int32 :=
  ckT σ 2 x0 (if (gi σ x0 1) < (51 : Int32) then x_isGoodEntry_277 fu σ else x_isGoodEntry_273 fu σ)
noncomputable def x_isGoodEntry_250 (fu : Nat) (σ : GS) (x0 : Nat) (x5 : Int32) : Option Int32 :=
  if x5 = (15 : Int32) then x_isGoodEntry_264 fu σ x0 else if x5 = (16 : Int32) then x_isGoodEntry_264 fu σ x0 else x_isGoodEntry_277 fu σ
noncomputable def x_isGoodEntry_332 (fu : Nat) (σ : GS) : Option Int32 :=
  some (1 : Int32)
noncomputable def x_isGoodEntry_336 (fu : Nat) (σ : GS) : Option Int32 :=
  some (0 : Int32)
noncomputable def x_isGoodEntry_374 (fu : Nat) (σ : GS) : Option Int32 :=
  some (0 : Int32)
noncomputable def x_isGoodEntry_405 (fu : Nat) (σ : GS) : Option Int32 :=
  some (1 : Int32)
noncomputable def x_isGoodEntry_409 (fu : Nat) (σ : GS) : Option Int32 :=
  some (0 : Int32)
noncomputable def x_isGoodEntry_458 (fu : Nat) (σ : GS) : Option Int32 :=
  some (0 : Int32)
noncomputable def x_isGoodEntry_440 (fu : Nat) (σ : GS) (x0 : Nat) (x3 : Int32) : Option Int32 :=
  (x_nameAt σ x0 x3).bind fun r1 => ckK σ 6 r1 fun a3 => (x_J2_equals fu σ a3 (gz σ 1)).bind fun r6 => if r6 = 0 then some (1 : Int32) else x_isGoodEntry_458 fu σ
noncomputable def x_isGoodEntry_507 (fu : Nat) (σ : GS) : Option Int32 :=
  some (0 : Int32)
noncomputable def x_isGoodEntry_547 (fu : Nat) (σ : GS) : Option Int32 :=
  some (0 : Int32)
noncomputable def x_isGoodEntry_571 (fu : Nat) (σ : GS) : Option Int32 :=
  some (0 : Int32)
noncomputable def x_isGoodEntry_588 (fu : Nat) (σ : GS) : Option Int32 :=
  some (0 : Int32)
noncomputable def x_isGoodEntry_618 (fu : Nat) (σ : GS) : Option Int32 :=
  some (0 : Int32)
noncomputable def x_isGoodEntry_671 (fu : Nat) (σ : GS) : Option Int32 :=
  some (0 : Int32)
noncomputable def x_isGoodEntry_0 (fu : Nat) (σ : GS) (x0 : Nat) (x1 : Nat) (x2 : Int32) (x3 : Int32) (x4 : Int32) : Option Int32 :=
  if x2 = (18 : Int32) then if x3 ≤ 0 then some (0 : Int32) else ckT σ 2 x0 (if x3 < (gi σ x0 6) then ckK σ 101 (gr σ x0 7) fun a5 => ckIn x3 (gn σ a5) (nx (gi σ a5 x3.toNatClampNeg) fun y9 => if y9 = (17 : Int32) then if (gi σ x0 1) < (55 : Int32) then x_isGoodEntry_213 fu σ else (x_typeAt σ x0 x3).bind fun r17 => ckR r17 fun a19 => (x_kindAt fu σ a19 (0 : Int32)).bind fun r22 => (x_isTwo σ r22).bind fun r24 => if r24 = 0 then some (1 : Int32) else x_isGoodEntry_213 fu σ else if y9 = (3 : Int32) then x_isGoodEntry_273 fu σ else if y9 = (4 : Int32) then x_isGoodEntry_273 fu σ else if y9 = (8 : Int32) then x_isGoodEntry_273 fu σ else if y9 = (7 : Int32) then if (49 : Int32) ≤ (gi σ x0 1) then x_isGoodEntry_273 fu σ else x_isGoodEntry_250 fu σ x0 y9 else x_isGoodEntry_250 fu σ x0 y9) else some (0 : Int32)) else if x2 = (19 : Int32) then if x3 ≤ 0 then some (0 : Int32) else ckT σ 2 x0 (if x3 < (gi σ x0 6) then ckK σ 101 (gr σ x0 7) fun a31 => ckIn x3 (gn σ a31) (nx (gi σ a31 x3.toNatClampNeg) fun y35 => if y35 = (17 : Int32) then if (gi σ x0 1) < (55 : Int32) then x_isGoodEntry_213 fu σ else (x_typeAt σ x0 x3).bind fun r43 => ckR r43 fun a45 => (x_kindAt fu σ a45 (0 : Int32)).bind fun r48 => (x_isTwo σ r48).bind fun r50 => if r50 = 0 then some (1 : Int32) else x_isGoodEntry_213 fu σ else if y35 = (3 : Int32) then x_isGoodEntry_273 fu σ else if y35 = (4 : Int32) then x_isGoodEntry_273 fu σ else if y35 = (8 : Int32) then x_isGoodEntry_273 fu σ else if y35 = (7 : Int32) then if (49 : Int32) ≤ (gi σ x0 1) then x_isGoodEntry_273 fu σ else x_isGoodEntry_250 fu σ x0 y35 else x_isGoodEntry_250 fu σ x0 y35) else some (0 : Int32)) else if x2 = (20 : Int32) then (x_isTag σ x0 x3 (5 : Int32)).bind fun r54 => if r54 = 0 then (x_isTag σ x0 x3 (6 : Int32)).bind fun r57 => if r57 = 0 then (x_isTag σ x0 x3 (17 : Int32)).bind fun r60 => if r60 = 0 then x_isGoodEntry_336 fu σ else ckT σ 2 x0 (if (gi σ x0 1) < (55 : Int32) then x_isGoodEntry_336 fu σ else (x_typeAt σ x0 x3).bind fun r65 => ckR r65 fun a67 => (x_kindAt fu σ a67 (0 : Int32)).bind fun r70 => (x_isTwo σ r70).bind fun r72 => if r72 = 0 then x_isGoodEntry_336 fu σ else x_isGoodEntry_332 fu σ) else x_isGoodEntry_332 fu σ else x_isGoodEntry_332 fu σ else if x2 = (178 : Int32) then (x_isTag σ x0 x3 (9 : Int32)).bind fun r76 => ckN .boolean r76 (some r76) else if x2 = (179 : Int32) then (x_isTag σ x0 x3 (9 : Int32)).bind fun r80 => ckN .boolean r80 (some r80) else if x2 = (180 : Int32) then (x_isTag σ x0 x3 (9 : Int32)).bind fun r84 => ckN .boolean r84 (some r84) else if x2 = (181 : Int32) then (x_isTag σ x0 x3 (9 : Int32)).bind fun r88 => ckN .boolean r88 (some r88) else if x2 = (182 : Int32) then (x_isTag σ x0 x3 (10 : Int32)).bind fun r92 => if r92 = 0 then x_isGoodEntry_374 fu σ else (x_nameAt σ x0 x3).bind fun r95 => ckK σ 6 r95 fun a97 => (x_J2_equals fu σ a97 (gz σ 1)).bind fun r100 => if r100 = 0 then some (1 : Int32) else x_isGoodEntry_374 fu σ else if x2 = (183 : Int32) then (x_isTag σ x0 x3 (10 : Int32)).bind fun r104 => if r104 = 0 then (x_isTag σ x0 x3 (11 : Int32)).bind fun r107 => if r107 = 0 then x_isGoodEntry_409 fu σ else ckT σ 2 x0 (if (gi σ x0 1) < (52 : Int32) then x_isGoodEntry_409 fu σ else x_isGoodEntry_405 fu σ) else x_isGoodEntry_405 fu σ else if x2 = (184 : Int32) then (x_isTag σ x0 x3 (10 : Int32)).bind fun r113 => if r113 = 0 then (x_isTag σ x0 x3 (11 : Int32)).bind fun r116 => if r116 = 0 then x_isGoodEntry_458 fu σ else ckT σ 2 x0 (if (gi σ x0 1) < (52 : Int32) then x_isGoodEntry_458 fu σ else x_isGoodEntry_440 fu σ x0 x3) else x_isGoodEntry_440 fu σ x0 x3 else if x2 = (185 : Int32) then (x_isTag σ x0 x3 (11 : Int32)).bind fun r122 => if r122 = 0 then x_isGoodEntry_507 fu σ else (x_codeU1 σ x1 (x4 + (3 : Int32))).bind fun r125 => (x_typeAt σ x0 x3).bind fun r127 => ckR r127 fun a129 => (x_placesOf fu σ a129).bind fun r132 => if r125 = (r132 + (1 : Int32)) then ckT σ 4 x1 (ckK σ 101 (gr σ x1 11) fun a136 => ckIn (x4 + (4 : Int32)) (gn σ a136) (if (gi σ a136 (x4 + (4 : Int32)).toNatClampNeg) = 0 then some (1 : Int32) else x_isGoodEntry_507 fu σ)) else x_isGoodEntry_507 fu σ else if x2 = (186 : Int32) then (x_isTag σ x0 x3 (18 : Int32)).bind fun r142 => if r142 = 0 then x_isGoodEntry_547 fu σ else ckT σ 4 x1 (ckK σ 101 (gr σ x1 11) fun a146 => ckIn (x4 + (3 : Int32)) (gn σ a146) (if (gi σ a146 (x4 + (3 : Int32)).toNatClampNeg) = 0 then ckIn (x4 + (4 : Int32)) (gn σ a146) (if (gi σ a146 (x4 + (4 : Int32)).toNatClampNeg) = 0 then some (1 : Int32) else x_isGoodEntry_547 fu σ) else x_isGoodEntry_547 fu σ)) else if x2 = (187 : Int32) then (x_isTag σ x0 x3 (7 : Int32)).bind fun r154 => if r154 = 0 then x_isGoodEntry_571 fu σ else (x_isArrayClass σ x0 x3).bind fun r157 => if r157 = 0 then some (1 : Int32) else x_isGoodEntry_571 fu σ else if x2 = (188 : Int32) then if x3 < (4 : Int32) then x_isGoodEntry_588 fu σ else if (11 : Int32) < x3 then x_isGoodEntry_588 fu σ else some (1 : Int32) else if x2 = (189 : Int32) then (x_isTag σ x0 x3 (7 : Int32)).bind fun r164 => if r164 = 0 then x_isGoodEntry_618 fu σ else (x_classAt σ x0 x3).bind fun r167 => ckR r167 fun a169 => (x_dimensions fu σ a169).bind fun r172 => if (255 : Int32) ≤ r172 then x_isGoodEntry_618 fu σ else some (1 : Int32) else if x2 = (192 : Int32) then (x_isTag σ x0 x3 (7 : Int32)).bind fun r176 => ckN .boolean r176 (some r176) else if x2 = (193 : Int32) then (x_isTag σ x0 x3 (7 : Int32)).bind fun r180 => ckN .boolean r180 (some r180) else if x2 = (197 : Int32) then (x_codeU1 σ x1 (x4 + (3 : Int32))).bind fun r184 => (x_isTag σ x0 x3 (7 : Int32)).bind fun r186 => if r186 = 0 then x_isGoodEntry_671 fu σ else if r184 < (1 : Int32) then x_isGoodEntry_671 fu σ else (x_classAt σ x0 x3).bind fun r190 => ckR r190 fun a192 => (x_dimensions fu σ a192).bind fun r195 => if r195 < r184 then x_isGoodEntry_671 fu σ else some (1 : Int32) else some (1 : Int32)
noncomputable def x_isGoodEntry (fu : Nat) (σ : GS) (x0 : Nat) (x1 : Nat) (x2 : Int32) (x3 : Int32) (x4 : Int32) : Option Int32 := x_isGoodEntry_0 fu σ x0 x1 x2 x3 x4
noncomputable def x_cutOne_111 (fu : Nat) (σ : GS) (x0 : Nat) (x2 : Nat) (x3 : Int32) (x4 : Int32) (x5 : Nat) : Option (Int32 × GS) :=
  ckT σ 1 x0 ((x_cutSwitch fu σ x0 x2 x3 x4 x5).bind fun r2 => ckN .boolean r2.1 (some (r2.1, r2.2)))
noncomputable def x_cutOne_507 (fu : Nat) (σ : GS) (x2 : Nat) (t0 : Int32) (t1 : Int32) : Option (Int32 × GS) :=
  ckT σ 4 x2 (if (gi σ x2 9) < (t1 + t0) then some ((0 : Int32), σ) else some ((1 : Int32), σ))
noncomputable def x_cutOne_472 (fu : Nat) (σ : GS) (x1 : Nat) (x2 : Nat) (x3 : Int32) (x4 : Int32) (x7 : Int32) : Option (Int32 × GS) :=
  ckT σ 4 x2 (ckK σ 100 (gr σ x2 17) fun a2 => ckIn x3 (gn σ a2) (nx (gi σ a2 x3.toNatClampNeg) fun y6 => (x_isLocalOp σ y6).bind fun r7 => if r7 = 0 then ckK σ 100 (gr σ x2 18) fun a10 => ckIn x3 (gn σ a10) ((x_isGoodEntry fu σ x1 x2 x7 (gi σ a10 x3.toNatClampNeg) x4).bind fun r14 => ckN .boolean r14 (some (r14, σ))) else ckK σ 100 (gr σ x2 18) fun a17 => ckIn x3 (gn σ a17) ((x_isTwoLocal σ y6).bind fun r21 => if r21 = 0 then x_cutOne_507 fu σ x2 (1 : Int32) (gi σ a17 x3.toNatClampNeg) else x_cutOne_507 fu σ x2 (2 : Int32) (gi σ a17 x3.toNatClampNeg))))
noncomputable def x_cutOne_450 (fu : Nat) (σ : GS) (x1 : Nat) (x2 : Nat) (x3 : Int32) (x4 : Int32) (x7 : Int32) : Option (Int32 × GS) :=
  if x7 = (197 : Int32) then ckT σ 4 x2 ((x_codeU1 σ x2 (x4 + (3 : Int32))).bind fun r3 => ckK σ 100 (gr σ x2 19) fun a5 => ckIn x3 (gn σ a5) (nx (gpi σ a5 x3.toNatClampNeg r3) fun s9 => x_cutOne_472 fu s9 x1 x2 x3 x4 x7)) else x_cutOne_472 fu σ x1 x2 x3 x4 x7
noncomputable def x_cutOne_247 (fu : Nat) (σ : GS) (x1 : Nat) (x2 : Nat) (x3 : Int32) (x4 : Int32) (x7 : Int32) : Option (Int32 × GS) :=
  ckT σ 4 x2 (ckK σ 100 (gr σ x2 17) fun a2 => ckIn x3 (gn σ a2) (nx (gpi σ a2 x3.toNatClampNeg (x7 - (33 : Int32))) fun s6 => (x_codeS4 s6 x2 (x4 + (1 : Int32))).bind fun r7 => ckK s6 100 (gr s6 x2 18) fun a9 => ckIn x3 (gn s6 a9) (nx (gpi s6 a9 x3.toNatClampNeg r7) fun s13 => x_cutOne_450 fu s13 x1 x2 x3 x4 x7)))
noncomputable def x_cutOne_367 (fu : Nat) (σ : GS) (x1 : Nat) (x2 : Nat) (x3 : Int32) (x4 : Int32) (x7 : Int32) (x8 : Int32) : Option (Int32 × GS) :=
  if x7 = (132 : Int32) then ckT σ 4 x2 ((x_codeU1 σ x2 (x4 + (1 : Int32))).bind fun r21 => ckK σ 100 (gr σ x2 18) fun a23 => ckIn x3 (gn σ a23) (nx (gpi σ a23 x3.toNatClampNeg r21) fun s27 => ckK s27 101 (gr s27 x2 11) fun a28 => ckIn (x4 + (2 : Int32)) (gn s27 a28) (ckK s27 100 (gr s27 x2 19) fun a32 => ckIn x3 (gn s27 a32) (nx (gpi s27 a32 x3.toNatClampNeg (gi s27 a28 (x4 + (2 : Int32)).toNatClampNeg)) fun s36 => x_cutOne_450 fu s36 x1 x2 x3 x4 x7)))) else if x8 = (1 : Int32) then ckT σ 4 x2 ((x_codeU1 σ x2 (x4 + (1 : Int32))).bind fun r13 => ckK σ 100 (gr σ x2 18) fun a15 => ckIn x3 (gn σ a15) (nx (gpi σ a15 x3.toNatClampNeg r13) fun s19 => x_cutOne_450 fu s19 x1 x2 x3 x4 x7)) else if x8 < (2 : Int32) then x_cutOne_450 fu σ x1 x2 x3 x4 x7 else ckT σ 4 x2 ((x_codeU2 σ x2 (x4 + (1 : Int32))).bind fun r5 => ckK σ 100 (gr σ x2 18) fun a7 => ckIn x3 (gn σ a7) (nx (gpi σ a7 x3.toNatClampNeg r5) fun s11 => x_cutOne_450 fu s11 x1 x2 x3 x4 x7))
noncomputable def x_cutOne_321 (fu : Nat) (σ : GS) (x1 : Nat) (x2 : Nat) (x3 : Int32) (x4 : Int32) (x7 : Int32) (x8 : Int32) : Option (Int32 × GS) :=
  if x7 < (59 : Int32) then x_cutOne_367 fu σ x1 x2 x3 x4 x7 x8 else if (78 : Int32) < x7 then x_cutOne_367 fu σ x1 x2 x3 x4 x7 x8 else ckT σ 4 x2 (ckD (4 : Int32) (ckK σ 100 (gr σ x2 17) fun a5 => ckIn x3 (gn σ a5) (nx (gpi σ a5 x3.toNatClampNeg ((54 : Int32) + ((x7 - (59 : Int32)) / (4 : Int32)))) fun s9 => ckD (4 : Int32) (ckK s9 100 (gr s9 x2 18) fun a11 => ckIn x3 (gn s9 a11) (nx (gpi s9 a11 x3.toNatClampNeg ((x7 - (59 : Int32)) - (x7 - (59 : Int32)) / (4 : Int32) * (4 : Int32))) fun s15 => x_cutOne_450 fu s15 x1 x2 x3 x4 x7)))))
noncomputable def x_cutOne_157 (fu : Nat) (σ : GS) (x1 : Nat) (x2 : Nat) (x3 : Int32) (x4 : Int32) (x7 : Int32) (x8 : Int32) : Option (Int32 × GS) :=
  if x7 = (16 : Int32) then ckT σ 4 x2 (ckK σ 101 (gr σ x2 11) fun a40 => ckIn (x4 + (1 : Int32)) (gn σ a40) (ckK σ 100 (gr σ x2 18) fun a44 => ckIn x3 (gn σ a44) (nx (gpi σ a44 x3.toNatClampNeg (gi σ a40 (x4 + (1 : Int32)).toNatClampNeg)) fun s48 => x_cutOne_450 fu s48 x1 x2 x3 x4 x7))) else if x7 = (17 : Int32) then ckT σ 4 x2 ((x_codeS2 σ x2 (x4 + (1 : Int32))).bind fun r32 => ckK σ 100 (gr σ x2 18) fun a34 => ckIn x3 (gn σ a34) (nx (gpi σ a34 x3.toNatClampNeg r32) fun s38 => x_cutOne_450 fu s38 x1 x2 x3 x4 x7)) else (x_isJump σ x7).bind fun r3 => if r3 = 0 then if x7 = (200 : Int32) then x_cutOne_247 fu σ x1 x2 x3 x4 x7 else if x7 = (201 : Int32) then x_cutOne_247 fu σ x1 x2 x3 x4 x7 else if x7 < (26 : Int32) then x_cutOne_321 fu σ x1 x2 x3 x4 x7 x8 else if (45 : Int32) < x7 then x_cutOne_321 fu σ x1 x2 x3 x4 x7 x8 else ckT σ 4 x2 (ckD (4 : Int32) (ckK σ 100 (gr σ x2 17) fun a12 => ckIn x3 (gn σ a12) (nx (gpi σ a12 x3.toNatClampNeg ((21 : Int32) + ((x7 - (26 : Int32)) / (4 : Int32)))) fun s16 => ckD (4 : Int32) (ckK s16 100 (gr s16 x2 18) fun a18 => ckIn x3 (gn s16 a18) (nx (gpi s16 a18 x3.toNatClampNeg ((x7 - (26 : Int32)) - (x7 - (26 : Int32)) / (4 : Int32) * (4 : Int32))) fun s22 => x_cutOne_450 fu s22 x1 x2 x3 x4 x7))))) else ckT σ 4 x2 ((x_codeS2 σ x2 (x4 + (1 : Int32))).bind fun r24 => ckK σ 100 (gr σ x2 18) fun a26 => ckIn x3 (gn σ a26) (nx (gpi σ a26 x3.toNatClampNeg r24) fun s30 => x_cutOne_450 fu s30 x1 x2 x3 x4 x7))
noncomputable def x_cutOne_78 (fu : Nat) (σ : GS) (x0 : Nat) (x1 : Nat) (x2 : Nat) (x3 : Int32) (x4 : Int32) (x5 : Nat) (x7 : Int32) (x8 : Int32) : Option (Int32 × GS) :=
  if x7 = (196 : Int32) then ckT σ 1 x0 ((x_cutWide σ x0 x2 x3 x4).bind fun r10 => ckN .boolean r10.1 (some (r10.1, r10.2))) else if x7 = (170 : Int32) then x_cutOne_111 fu σ x0 x2 x3 x4 x5 else if x7 = (171 : Int32) then x_cutOne_111 fu σ x0 x2 x3 x4 x5 else ckT σ 2 x1 (if (gi σ x1 1) < (51 : Int32) then x_cutOne_157 fu σ x1 x2 x3 x4 x7 x8 else if x7 = (168 : Int32) then some ((0 : Int32), σ) else if x7 = (169 : Int32) then some ((0 : Int32), σ) else if x7 = (201 : Int32) then some ((0 : Int32), σ) else x_cutOne_157 fu σ x1 x2 x3 x4 x7 x8)
noncomputable def x_cutOne_41 (fu : Nat) (σ : GS) (x0 : Nat) (x1 : Nat) (x2 : Nat) (x3 : Int32) (x4 : Int32) (x5 : Nat) (x6 : Int32) (x7 : Int32) (x8 : Int32) (t0 : Int32) (t1 : Int32) (t2 : Option Nat) : Option (Int32 × GS) :=
  ckK σ 100 t2 fun a1 => ckIn t1 (gn σ a1) (nx (gpi σ a1 t1.toNatClampNeg t0) fun s5 => if x8 = (-2 : Int32) then some ((0 : Int32), s5) else if x8 < 0 then x_cutOne_78 fu s5 x0 x1 x2 x3 x4 x5 x7 x8 else ckT s5 1 x0 (nx (gpi s5 x0 12 ((x4 + (1 : Int32)) + x8)) fun s9 => if (gi s9 x0 12) ≤ x6 then x_cutOne_78 fu s9 x0 x1 x2 x3 x4 x5 x7 x8 else some ((0 : Int32), s9)))
noncomputable def x_cutOne_0 (fu : Nat) (σ : GS) (x0 : Nat) (x1 : Nat) (x2 : Nat) (x3 : Int32) (x4 : Int32) (x5 : Nat) : Option (Int32 × GS) :=
  ckT σ 4 x2 (ckK σ 101 (gr σ x2 11) fun a2 => nx (nI (gn σ a2)) fun y5 => (x_codeU1 σ x2 x4).bind fun r6 => (x_operands σ r6).bind fun r8 => if r6 = (19 : Int32) then x_cutOne_41 fu σ x0 x1 x2 x3 x4 x5 y5 r6 r8 (18 : Int32) x3 (gr σ x2 17) else x_cutOne_41 fu σ x0 x1 x2 x3 x4 x5 y5 r6 r8 r6 x3 (gr σ x2 17))
noncomputable def x_cutOne (fu : Nat) (σ : GS) (x0 : Nat) (x1 : Nat) (x2 : Nat) (x3 : Int32) (x4 : Int32) (x5 : Nat) : Option (Int32 × GS) := x_cutOne_0 fu σ x0 x1 x2 x3 x4 x5
noncomputable def x_indexOf_13 (σ : GS) : Option Int32 :=
  some (-1 : Int32)
noncomputable def x_indexOf_0 (σ : GS) (x0 : Nat) (x1 : Int32) : Option Int32 :=
  if x1 < 0 then x_indexOf_13 σ else ckT σ 4 x0 (ckK σ 101 (gr σ x0 11) fun a3 => if x1 < (nI (gn σ a3)) then ckK σ 100 (gr σ x0 20) fun a7 => ckIn x1 (gn σ a7) (some (gi σ a7 x1.toNatClampNeg)) else x_indexOf_13 σ)
noncomputable def x_indexOf (σ : GS) (x0 : Nat) (x1 : Int32) : Option Int32 := x_indexOf_0 σ x0 x1
noncomputable def x_cut_2_368 (fu : Nat) (k179 : GS → Nat → Int32 → Nat → Int32 → Option (Int32 × GS)) (σ : GS) (x2 : Nat) (x4 : Int32) (x7 : Nat) (x8 : Int32) : Option (Int32 × GS) :=
  nx (x8 + (1 : Int32)) fun y1 => k179 σ x2 x4 x7 y1
noncomputable def x_cut_2_362 (fu : Nat) (k301 : GS → Nat → Int32 → Nat → Int32 → Option Nat → Int32 → Int32 → Option (Int32 × GS)) (σ : GS) (x2 : Nat) (x4 : Int32) (x7 : Nat) (x8 : Int32) (x9 : Option Nat) (x10 : Int32) (t0 : Int32) (t1 : Int32) : Option (Int32 × GS) :=
  nx (t1 + t0) fun y1 => k301 σ x2 x4 x7 x8 x9 x10 y1
noncomputable def x_cut_2_301 (fu : Nat) (k179 : GS → Nat → Int32 → Nat → Int32 → Option (Int32 × GS)) (k301 : GS → Nat → Int32 → Nat → Int32 → Option Nat → Int32 → Int32 → Option (Int32 × GS)) (σ : GS) (x2 : Nat) (x4 : Int32) (x7 : Nat) (x8 : Int32) (x9 : Option Nat) (x10 : Int32) (x11 : Int32) : Option (Int32 × GS) :=
  ckK σ 100 x9 fun a1 => if (nI (gn σ a1)) ≤ x11 then x_cut_2_368 fu k179 σ x2 x4 x7 x8 else ckT σ 4 x2 (ckK σ 100 (gr σ x2 16) fun a6 => ckIn x8 (gn σ a6) (ckIn x11 (gn σ a1) ((x_indexOf σ x2 ((gi σ a6 x8.toNatClampNeg) + (gi σ a1 x11.toNatClampNeg))).bind fun r11 => if 0 ≤ r11 then ckIn x11 (gn σ a1) (nx (gpi σ a1 x11.toNatClampNeg r11) fun s15 => if x11 = 0 then x_cut_2_362 fu k301 s15 x2 x4 x7 x8 x9 x10 x10 x11 else x_cut_2_362 fu k301 s15 x2 x4 x7 x8 x9 x10 x10 x11) else ckIn x8 (gn σ a6) (some (gi σ a6 x8.toNatClampNeg, σ)))))
noncomputable def x_cut_2_301L (fu : Nat) (k179 : GS → Nat → Int32 → Nat → Int32 → Option (Int32 × GS)) (n : Nat) : GS → Nat → Int32 → Nat → Int32 → Option Nat → Int32 → Int32 → Option (Int32 × GS) := lpF (F := GS → Nat → Int32 → Nat → Int32 → Option Nat → Int32 → Int32 → Option (Int32 × GS)) (fun _ _ _ _ _ _ _ _ => none) (fun k => x_cut_2_301 fu k179 k) n
noncomputable def x_cut_2_296 (fu : Nat) (k179 : GS → Nat → Int32 → Nat → Int32 → Option (Int32 × GS)) (σ : GS) (x2 : Nat) (x4 : Int32) (x7 : Nat) (x8 : Int32) (x9 : Option Nat) (t0 : Int32) : Option (Int32 × GS) :=
  x_cut_2_301L fu k179 fu σ x2 x4 x7 x8 x9 t0 (0 : Int32)
noncomputable def x_cut_2_271 (fu : Nat) (k179 : GS → Nat → Int32 → Nat → Int32 → Option (Int32 × GS)) (σ : GS) (x2 : Nat) (x4 : Int32) (x7 : Nat) (x8 : Int32) : Option (Int32 × GS) :=
  ckT σ 108 x7 (ckIn x8 (gn σ x7) (nx (gr σ x7 x8.toNatClampNeg) fun y3 => ckT σ 4 x2 (ckK σ 100 (gr σ x2 17) fun a5 => ckIn x8 (gn σ a5) (if (gi σ a5 x8.toNatClampNeg) = (170 : Int32) then x_cut_2_296 fu k179 σ x2 x4 x7 x8 y3 (1 : Int32) else x_cut_2_296 fu k179 σ x2 x4 x7 x8 y3 (2 : Int32)))))
noncomputable def x_cut_2_179 (fu : Nat) (k179 : GS → Nat → Int32 → Nat → Int32 → Option (Int32 × GS)) (σ : GS) (x2 : Nat) (x4 : Int32) (x7 : Nat) (x8 : Int32) : Option (Int32 × GS) :=
  if x4 ≤ x8 then some ((-2 : Int32), σ) else ckT σ 4 x2 (ckK σ 100 (gr σ x2 17) fun a3 => ckIn x8 (gn σ a3) ((x_isJump σ (gi σ a3 x8.toNatClampNeg)).bind fun r7 => if r7 = 0 then ckIn x8 (gn σ a3) (if (gi σ a3 x8.toNatClampNeg) = (170 : Int32) then x_cut_2_271 fu k179 σ x2 x4 x7 x8 else ckIn x8 (gn σ a3) (if (gi σ a3 x8.toNatClampNeg) = (171 : Int32) then x_cut_2_271 fu k179 σ x2 x4 x7 x8 else x_cut_2_368 fu k179 σ x2 x4 x7 x8)) else ckK σ 100 (gr σ x2 16) fun a14 => ckIn x8 (gn σ a14) (ckK σ 100 (gr σ x2 18) fun a18 => ckIn x8 (gn σ a18) ((x_indexOf σ x2 ((gi σ a14 x8.toNatClampNeg) + (gi σ a18 x8.toNatClampNeg))).bind fun r22 => if 0 ≤ r22 then ckIn x8 (gn σ a18) (nx (gpi σ a18 x8.toNatClampNeg r22) fun s26 => x_cut_2_368 fu k179 s26 x2 x4 x7 x8) else ckIn x8 (gn σ a14) (some (gi σ a14 x8.toNatClampNeg, σ))))))
noncomputable def x_cut_2_179L (fu : Nat) (n : Nat) : GS → Nat → Int32 → Nat → Int32 → Option (Int32 × GS) := lpF (F := GS → Nat → Int32 → Nat → Int32 → Option (Int32 × GS)) (fun _ _ _ _ _ => none) (fun k => x_cut_2_179 fu k) n
noncomputable def x_cut_2_145 (fu : Nat) (k145 : GS → Nat → Int32 → Nat → Nat → Int32 → Option (Int32 × GS)) (σ : GS) (x2 : Nat) (x4 : Int32) (x6 : Nat) (x7 : Nat) (x8 : Int32) : Option (Int32 × GS) :=
  if x4 ≤ x8 then ckT σ 4 x2 (nx (gpr σ x2 21 (some x7)) fun s3 => x_cut_2_179L fu fu s3 x2 x4 x7 (0 : Int32)) else ckT σ 4 x2 (ckT σ 100 x6 (ckIn x8 (gn σ x6) (ckK σ 100 (gr σ x2 16) fun a7 => ckIn x8 (gn σ a7) (nx (gpi σ a7 x8.toNatClampNeg (gi σ x6 x8.toNatClampNeg)) fun s11 => nx (x8 + (1 : Int32)) fun y12 => k145 s11 x2 x4 x6 x7 y12))))
noncomputable def x_cut_2_145L (fu : Nat) (n : Nat) : GS → Nat → Int32 → Nat → Nat → Int32 → Option (Int32 × GS) := lpF (F := GS → Nat → Int32 → Nat → Nat → Int32 → Option (Int32 × GS)) (fun _ _ _ _ _ _ => none) (fun k => x_cut_2_145 fu k) n
noncomputable def x_cut_2_76 (fu : Nat) (k76 : GS → Nat → Nat → Nat → Int32 → Int32 → Int32 → Nat → Nat → Option (Int32 × GS)) (σ : GS) (x0 : Nat) (x1 : Nat) (x2 : Nat) (x3 : Int32) (x4 : Int32) (x5 : Int32) (x6 : Nat) (x7 : Nat) : Option (Int32 × GS) :=
  if x3 ≤ x5 then ckT σ 4 x2 (nx (gpi σ x2 15 x4) fun s3 => ckL x4 (ckC s3 x4.toNatClampNeg (nx (gx s3) fun a6 => nx (gnew s3 100 x4.toNatClampNeg x4.toNatClampNeg) fun s7 => ckT s7 4 x2 (nx (gpr s7 x2 16 (some a6)) fun s10 => x_cut_2_145L fu fu s10 x2 x4 x6 x7 (0 : Int32))))) else ckT σ 100 x6 (ckIn x4 (gn σ x6) (nx (gpi σ x6 x4.toNatClampNeg x5) fun s13 => ckT s13 4 x2 (ckK s13 100 (gr s13 x2 20) fun a15 => ckIn x5 (gn s13 a15) (nx (gpi s13 a15 x5.toNatClampNeg x4) fun s19 => ckT s19 1 x0 ((x_cutOne fu s19 x0 x1 x2 x4 x5 x7).bind fun r21 => if r21.1 = 0 then some (x5, r21.2) else nx (x4 + (1 : Int32)) fun y24 => ckT r21.2 1 x0 (nx (gi r21.2 x0 12) fun y26 => k76 r21.2 x0 x1 x2 x3 y24 y26 x6 x7))))))
noncomputable def x_cut_2_76L (fu : Nat) (n : Nat) : GS → Nat → Nat → Nat → Int32 → Int32 → Int32 → Nat → Nat → Option (Int32 × GS) := lpF (F := GS → Nat → Nat → Nat → Int32 → Int32 → Int32 → Nat → Nat → Option (Int32 × GS)) (fun _ _ _ _ _ _ _ _ _ => none) (fun k => x_cut_2_76 fu k) n
noncomputable def x_cut_2_24 (fu : Nat) (k24 : GS → Nat → Nat → Nat → Int32 → Int32 → Int32 → Int32 → Option (Int32 × GS)) (σ : GS) (x0 : Nat) (x1 : Nat) (x2 : Nat) (x3 : Int32) (x4 : Int32) (x5 : Int32) (x6 : Int32) : Option (Int32 × GS) :=
  if x3 < x6 then ckL x3 (ckC σ x3.toNatClampNeg (nx (gx σ) fun a4 => nx (gnew σ 100 x3.toNatClampNeg x3.toNatClampNeg) fun s5 => ckL x3 (ckC s5 x3.toNatClampNeg (nx (gx s5) fun a9 => nx (gnew s5 100 x3.toNatClampNeg x3.toNatClampNeg) fun s10 => ckT s10 4 x2 (nx (gpr s10 x2 17 (some a9)) fun s13 => ckL x3 (ckC s13 x3.toNatClampNeg (nx (gx s13) fun a16 => nx (gnew s13 100 x3.toNatClampNeg x3.toNatClampNeg) fun s17 => ckT s17 4 x2 (nx (gpr s17 x2 18 (some a16)) fun s20 => ckL x3 (ckC s20 x3.toNatClampNeg (nx (gx s20) fun a23 => nx (gnew s20 100 x3.toNatClampNeg x3.toNatClampNeg) fun s24 => ckT s24 4 x2 (nx (gpr s24 x2 19 (some a23)) fun s27 => ckL x3 (ckC s27 x3.toNatClampNeg (nx (gx s27) fun a30 => nx (gnew s27 108 x3.toNatClampNeg x3.toNatClampNeg) fun s31 => x_cut_2_76L fu fu s31 x0 x1 x2 x3 x4 x5 a4 a30))))))))))))) else ckT σ 4 x2 (ckK σ 100 (gr σ x2 20) fun a34 => ckIn x6 (gn σ a34) (nx (gpi σ a34 x6.toNatClampNeg (-1 : Int32)) fun s38 => nx (x6 + (1 : Int32)) fun y39 => k24 s38 x0 x1 x2 x3 x4 x5 y39))
noncomputable def x_cut_2_24L (fu : Nat) (n : Nat) : GS → Nat → Nat → Nat → Int32 → Int32 → Int32 → Int32 → Option (Int32 × GS) := lpF (F := GS → Nat → Nat → Nat → Int32 → Int32 → Int32 → Int32 → Option (Int32 × GS)) (fun _ _ _ _ _ _ _ _ => none) (fun k => x_cut_2_24 fu k) n
noncomputable def x_cut_2_0 (fu : Nat) (σ : GS) (x0 : Nat) (x1 : Nat) (x2 : Nat) : Option (Int32 × GS) :=
  ckT σ 4 x2 (ckK σ 101 (gr σ x2 11) fun a2 => nx (nI (gn σ a2)) fun y5 => ckL (y5 + (1 : Int32)) (ckC σ (y5 + (1 : Int32)).toNatClampNeg (nx (gx σ) fun a8 => nx (gnew σ 100 (y5 + (1 : Int32)).toNatClampNeg (y5 + (1 : Int32)).toNatClampNeg) fun s9 => ckT s9 4 x2 (nx (gpr s9 x2 20 (some a8)) fun s12 => x_cut_2_24L fu fu s12 x0 x1 x2 y5 (0 : Int32) (0 : Int32) (0 : Int32)))))
noncomputable def x_cut_2 (fu : Nat) (σ : GS) (x0 : Nat) (x1 : Nat) (x2 : Nat) : Option (Int32 × GS) := x_cut_2_0 fu σ x0 x1 x2
noncomputable def x_cut_54 (fu : Nat) (σ : GS) (x2 : Option Nat) : Option (Int32 × GS) :=
  ckK σ 4 x2 fun a1 => if (gi σ a1 14) = (1 : Int32) then some (gi σ a1 15, σ) else some (gi σ a1 14, σ)
noncomputable def x_cut_51 (fu : Nat) (σ : GS) (x2 : Option Nat) (t0 : Int32) (t1 : Option Nat) : Option (Int32 × GS) :=
  ckK σ 4 t1 fun a1 => nx (gpi σ a1 14 t0) fun s4 => x_cut_54 fu s4 x2
noncomputable def x_cut_0 (fu : Nat) (σ : GS) (x0 : Nat) (x1 : Int32) : Option (Int32 × GS) :=
  ckT σ 1 x0 ((x_methodAt σ x0 x1).bind fun r2 => if r2 = none then some ((-1 : Int32), σ) else ckK σ 4 r2 fun a5 => if (gi σ a5 10) = 0 then some ((-1 : Int32), σ) else if (gi σ a5 14) = 0 then ckR (gr σ x0 5) fun a10 => (x_cut_2 fu σ x0 a10 a5).bind fun r13 => if r13.1 = (-2 : Int32) then x_cut_51 fu r13.2 r2 (1 : Int32) r2 else x_cut_51 fu r13.2 r2 ((-2 : Int32) - r13.1) r2 else x_cut_54 fu σ r2)
noncomputable def x_cut (fu : Nat) (σ : GS) (x0 : Nat) (x1 : Int32) : Option (Int32 × GS) := x_cut_0 fu σ x0 x1
noncomputable def x_cutAt_0 (fu : Nat) (σ : GS) (x0 : Nat) (x1 : Int32) (x2 : Int32) : Option (Option Nat × GS) :=
  ckT σ 1 x0 ((x_cut fu σ x0 x1).bind fun r2 => if r2.1 ≤ x2 then some (none, r2.2) else if 0 ≤ x2 then ckT r2.2 1 x0 (ckK r2.2 2 (gr r2.2 x0 5) fun a7 => ckK r2.2 107 (gr r2.2 a7 13) fun a10 => ckIn x1 (gn r2.2 a10) (some (gr r2.2 a10 x1.toNatClampNeg, r2.2))) else some (none, r2.2))
noncomputable def x_cutAt (fu : Nat) (σ : GS) (x0 : Nat) (x1 : Int32) (x2 : Int32) : Option (Option Nat × GS) := x_cutAt_0 fu σ x0 x1 x2
noncomputable def x_jump_93 (fu : Nat) (σ : GS) (x2 : Int32) (x3 : Int32) (x4 : Int32) (x5 : Option Nat) (x6 : Option Nat) (x7 : Int32) (t0 : Int32) (t1 : Int32) : Option (Int32 × GS) :=
  if t1 < t0 then if x4 = 0 then if x7 = 0 then ckK σ 100 x6 fun a17 => ckIn ((2 : Int32) * x3) (gn σ a17) (some (gi σ a17 ((2 : Int32) * x3).toNatClampNeg, σ)) else ckK σ 100 x6 fun a21 => ckIn x3 (gn σ a21) (some (gi σ a21 x3.toNatClampNeg, σ)) else if x3 = 0 then some ((0 : Int32), σ) else if x7 = 0 then ckK σ 100 x6 fun a5 => ckIn (((2 : Int32) * x3) - (1 : Int32)) (gn σ a5) (some (gi σ a5 (((2 : Int32) * x3) - (1 : Int32)).toNatClampNeg, σ)) else ckK σ 4 x5 fun a9 => ckK σ 100 (gr σ a9 18) fun a12 => ckIn x2 (gn σ a12) (some (((gi σ a12 x2.toNatClampNeg) + x3) - (1 : Int32), σ)) else some ((-1 : Int32), σ)
noncomputable def x_jump_72 (fu : Nat) (σ : GS) (x2 : Int32) (x3 : Int32) (x4 : Int32) (x5 : Option Nat) (x6 : Option Nat) (t0 : Int32) : Option (Int32 × GS) :=
  if t0 = 0 then ckK σ 100 x6 fun a2 => ckD (2 : Int32) (x_jump_93 fu σ x2 x3 x4 x5 x6 t0 (((nI (gn σ a2)) / (2 : Int32)) + (1 : Int32)) x3) else ckK σ 100 x6 fun a6 => x_jump_93 fu σ x2 x3 x4 x5 x6 t0 (nI (gn σ a6)) x3
noncomputable def x_jump_45 (fu : Nat) (σ : GS) (x2 : Int32) (x3 : Int32) (x4 : Int32) (x5 : Option Nat) : Option (Int32 × GS) :=
  ckK σ 4 x5 fun a1 => ckK σ 108 (gr σ a1 21) fun a4 => ckIn x2 (gn σ a4) (nx (gr σ a4 x2.toNatClampNeg) fun y8 => ckK σ 100 (gr σ a1 17) fun a9 => ckIn x2 (gn σ a9) (if (gi σ a9 x2.toNatClampNeg) = (170 : Int32) then x_jump_72 fu σ x2 x3 x4 x5 y8 (1 : Int32) else x_jump_72 fu σ x2 x3 x4 x5 y8 (0 : Int32)))
noncomputable def x_jump_0 (fu : Nat) (σ : GS) (x0 : Nat) (x1 : Int32) (x2 : Int32) (x3 : Int32) (x4 : Int32) : Option (Int32 × GS) :=
  ckT σ 1 x0 ((x_cutAt fu σ x0 x1 x2).bind fun r2 => if r2.1 = none then some ((-1 : Int32), r2.2) else if x3 < 0 then some ((-1 : Int32), r2.2) else ckK r2.2 4 r2.1 fun a6 => ckK r2.2 100 (gr r2.2 a6 17) fun a9 => ckIn x2 (gn r2.2 a9) (if (gi r2.2 a9 x2.toNatClampNeg) = (170 : Int32) then x_jump_45 fu r2.2 x2 x3 x4 r2.1 else ckIn x2 (gn r2.2 a9) (if (gi r2.2 a9 x2.toNatClampNeg) = (171 : Int32) then x_jump_45 fu r2.2 x2 x3 x4 r2.1 else some ((-1 : Int32), r2.2))))
noncomputable def x_jump (fu : Nat) (σ : GS) (x0 : Nat) (x1 : Int32) (x2 : Int32) (x3 : Int32) (x4 : Int32) : Option (Int32 × GS) := x_jump_0 fu σ x0 x1 x2 x3 x4
noncomputable def x_four_3 (fu : Nat) (k3 : GS → Nat → Int32 → Int32 → Option GS) (σ : GS) (x0 : Nat) (x1 : Int32) (x2 : Int32) : Option GS :=
  if x2 < 0 then some σ else ckT σ 1 x0 (ckK σ 101 (gr σ x0 0) fun a3 => ckW σ a3 (ckIn (gi σ x0 1) (gn σ a3) (nx (gpi σ a3 (gi σ x0 1).toNatClampNeg ((x1 >>> (x2 &&& 31)).toInt8.toInt32).toInt8.toInt32) fun s8 => nx (gpi s8 x0 1 ((gi s8 x0 1) + (1 : Int32))) fun s9 => nx (x2 + (-8 : Int32)) fun y10 => k3 s9 x0 x1 y10)))
noncomputable def x_four_3L (fu : Nat) (n : Nat) : GS → Nat → Int32 → Int32 → Option GS := lpF (F := GS → Nat → Int32 → Int32 → Option GS) (fun _ _ _ _ => none) (fun k => x_four_3 fu k) n
noncomputable def x_four_0 (fu : Nat) (σ : GS) (x0 : Nat) (x1 : Int32) : Option GS :=
  x_four_3L fu fu σ x0 x1 (24 : Int32)
noncomputable def x_four (fu : Nat) (σ : GS) (x0 : Nat) (x1 : Int32) : Option GS := x_four_0 fu σ x0 x1
noncomputable def x_feed_0 (fu : Nat) (σ : GS) (x0 : Nat) (x1 : Int32) (x2 : Int32) (x3 : Int32) (x4 : Int32) (x5 : Int32) : Option (Int32 × GS) :=
  ckT σ 1 x0 (if ((gi σ x0 1) + (20 : Int32)) ≤ (65540 : Int32) then (x_four fu σ x0 x1).bind fun r3 => ckT r3 1 x0 ((x_four fu r3 x0 x2).bind fun r6 => ckT r6 1 x0 ((x_four fu r6 x0 x3).bind fun r9 => ckT r9 1 x0 ((x_four fu r9 x0 x4).bind fun r12 => ckT r12 1 x0 ((x_four fu r12 x0 x5).bind fun r15 => ckT r15 1 x0 (some (gi r15 x0 1, r15)))))) else (none : Option (Int32 × GS)))
noncomputable def x_feed (fu : Nat) (σ : GS) (x0 : Nat) (x1 : Int32) (x2 : Int32) (x3 : Int32) (x4 : Int32) (x5 : Int32) : Option (Int32 × GS) := x_feed_0 fu σ x0 x1 x2 x3 x4 x5
noncomputable def x_end_12 (fu : Nat) (σ : GS) : Option (Int32 × GS) :=
  (none : Option (Int32 × GS))
noncomputable def x_end_29 (fu : Nat) (k29 : GS → Nat → Int32 → Int32 → Option (Int32 × GS)) (σ : GS) (x0 : Nat) (x1 : Int32) (x2 : Int32) : Option (Int32 × GS) :=
  if x1 ≤ x2 then ckT σ 1 x0 (nx (gpi σ x0 1 (0 : Int32)) fun s3 => some (x1, s3)) else ckT σ 1 x0 (ckK σ 101 (gr σ x0 0) fun a5 => ckIn x2 (gn σ a5) (ckK σ 101 (gr σ x0 2) fun a9 => ckW σ a9 (ckIn x2 (gn σ a9) (nx (gpi σ a9 x2.toNatClampNeg (gi σ a5 x2.toNatClampNeg).toInt8.toInt32) fun s14 => nx (x2 + (1 : Int32)) fun y15 => k29 s14 x0 x1 y15))))
noncomputable def x_end_29L (fu : Nat) (n : Nat) : GS → Nat → Int32 → Int32 → Option (Int32 × GS) := lpF (F := GS → Nat → Int32 → Int32 → Option (Int32 × GS)) (fun _ _ _ _ => none) (fun k => x_end_29 fu k) n
noncomputable def x_end_0 (fu : Nat) (σ : GS) (x0 : Nat) (x1 : Int32) : Option (Int32 × GS) :=
  if x1 < 0 then x_end_12 fu σ else ckT σ 1 x0 (if x1 ≤ (gi σ x0 1) then ckL x1 (ckC σ x1.toNatClampNeg (nx (gx σ) fun a6 => nx (gnew σ 101 x1.toNatClampNeg x1.toNatClampNeg) fun s7 => ckT s7 1 x0 (nx (gpr s7 x0 2 (some a6)) fun s10 => x_end_29L fu fu s10 x0 x1 (0 : Int32)))) else x_end_12 fu σ)
noncomputable def x_end (fu : Nat) (σ : GS) (x0 : Nat) (x1 : Int32) : Option (Int32 × GS) := x_end_0 fu σ x0 x1
noncomputable def x_count_10 (fu : Nat) (σ : GS) : Option Int32 :=
  (none : Option Int32)
noncomputable def x_count_207 (fu : Nat) (σ : GS) (k172 : Option Nat → Int32 → Int32 → Option Int32) (x2 : Option Nat) (x4 : Int32) (t0 : Int32) (t1 : Int32) : Option Int32 :=
  nx (t1 + t0) fun y1 => nx (x4 + (1 : Int32)) fun y2 => k172 x2 y1 y2
noncomputable def x_count_172 (fu : Nat) (σ : GS) (k172 : Option Nat → Int32 → Int32 → Option Int32) (x2 : Option Nat) (x3 : Int32) (x4 : Int32) : Option Int32 :=
  ckK σ 2 x2 fun a1 => if (gi σ a1 6) ≤ x4 then some x3 else ckK σ 101 (gr σ a1 7) fun a5 => ckIn x4 (gn σ a5) (if (gi σ a5 x4.toNatClampNeg) = (1 : Int32) then ckK σ 105 (gr σ a1 11) fun a10 => ckIn x4 (gn σ a10) (ckK σ 6 (gr σ a10 x4.toNatClampNeg) fun a14 => (x_J2_length σ a14).bind fun r17 => x_count_207 fu σ k172 x2 x4 r17 x3) else x_count_207 fu σ k172 x2 x4 (0 : Int32) x3)
noncomputable def x_count_172L (fu : Nat) (σ : GS) (n : Nat) : Option Nat → Int32 → Int32 → Option Int32 := lpF (F := Option Nat → Int32 → Int32 → Option Int32) (fun _ _ _ => none) (fun k => x_count_172 fu σ k) n
noncomputable def x_count_0 (fu : Nat) (σ : GS) (x0 : Nat) (x1 : Int32) : Option Int32 :=
  if x1 < 0 then x_count_10 fu σ else if x1 ≤ (15 : Int32) then ckT σ 1 x0 (if (gr σ x0 5) = none then some (-1 : Int32) else nx (gr σ x0 5) fun y5 => if x1 = (0 : Int32) then ckK σ 2 y5 fun a7 => some (gi σ a7 6) else if x1 = (1 : Int32) then ckK σ 2 y5 fun a11 => ckK σ 106 (gr σ a11 12) fun a14 => some (nI (gn σ a14)) else if x1 = (2 : Int32) then ckK σ 2 y5 fun a18 => ckK σ 107 (gr σ a18 13) fun a21 => some (nI (gn σ a21)) else if x1 = (3 : Int32) then ckK σ 2 y5 fun a25 => ckK σ 100 (gr σ a25 5) fun a28 => some (nI (gn σ a28)) else if x1 = (4 : Int32) then ckK σ 2 y5 fun a32 => ckK σ 108 (gr σ a32 21) fun a35 => some (nI (gn σ a35)) else if x1 = (5 : Int32) then ckK σ 2 y5 fun a39 => some (gi σ a39 20) else if x1 = (6 : Int32) then ckK σ 2 y5 fun a43 => some (gi σ a43 0) else if x1 = (7 : Int32) then ckK σ 2 y5 fun a47 => some (gi σ a47 1) else if x1 = (8 : Int32) then ckK σ 2 y5 fun a51 => some (gi σ a51 2) else if x1 = (9 : Int32) then ckK σ 2 y5 fun a55 => some (gi σ a55 3) else if x1 = (10 : Int32) then ckK σ 2 y5 fun a59 => some (gi σ a59 4) else if x1 = (11 : Int32) then x_count_172L fu σ fu y5 (0 : Int32) (1 : Int32) else if x1 = (12 : Int32) then ckK σ 2 y5 fun a64 => some (gi σ a64 18) else if x1 = (13 : Int32) then ckK σ 2 y5 fun a68 => some (gi σ a68 16) else if x1 = (14 : Int32) then ckK σ 2 y5 fun a72 => some (gi σ a72 17) else ckK σ 2 y5 fun a75 => some (gi σ a75 19)) else x_count_10 fu σ
noncomputable def x_count (fu : Nat) (σ : GS) (x0 : Nat) (x1 : Int32) : Option Int32 := x_count_0 fu σ x0 x1
noncomputable def x_entry_9 (σ : GS) : Option Int32 :=
  (none : Option Int32)
noncomputable def x_entry_120 (σ : GS) (x0 : Nat) (x1 : Int32) (x2 : Int32) (x4 : Int32) (t0 : Int32) : Option Int32 :=
  if x2 = (1 : Int32) then if t0 = 0 then some (0 : Int32) else ckT σ 1 x0 (ckK σ 2 (gr σ x0 5) fun a13 => ckK σ 100 (gr σ a13 8) fun a16 => ckIn x1 (gn σ a16) (some (gi σ a16 x1.toNatClampNeg))) else if x4 = 0 then some (0 : Int32) else ckT σ 1 x0 (ckK σ 2 (gr σ x0 5) fun a4 => ckK σ 100 (gr σ a4 9) fun a7 => ckIn x1 (gn σ a7) (some (gi σ a7 x1.toNatClampNeg)))
noncomputable def x_entry_115 (σ : GS) (x0 : Nat) (x1 : Int32) (x2 : Int32) (x4 : Int32) : Option Int32 :=
  x_entry_120 σ x0 x1 x2 x4 (1 : Int32)
noncomputable def x_entry_78 (σ : GS) (x0 : Nat) (x1 : Int32) (x2 : Int32) (x3 : Int32) (t0 : Int32) : Option Int32 :=
  if t0 = 0 then if x3 = (7 : Int32) then x_entry_115 σ x0 x1 x2 t0 else if x3 = (8 : Int32) then x_entry_115 σ x0 x1 x2 t0 else if x3 = (16 : Int32) then x_entry_115 σ x0 x1 x2 t0 else if x3 = (19 : Int32) then x_entry_115 σ x0 x1 x2 t0 else if x3 = (20 : Int32) then x_entry_115 σ x0 x1 x2 t0 else x_entry_120 σ x0 x1 x2 t0 (0 : Int32) else x_entry_115 σ x0 x1 x2 t0
noncomputable def x_entry_73 (σ : GS) (x0 : Nat) (x1 : Int32) (x2 : Int32) (x3 : Int32) : Option Int32 :=
  x_entry_78 σ x0 x1 x2 x3 (1 : Int32)
noncomputable def x_entry_55 (σ : GS) (x0 : Nat) (x1 : Int32) (x2 : Int32) (x3 : Int32) : Option Int32 :=
  if x3 = (15 : Int32) then x_entry_73 σ x0 x1 x2 x3 else if x3 = (17 : Int32) then x_entry_73 σ x0 x1 x2 x3 else if x3 = (18 : Int32) then x_entry_73 σ x0 x1 x2 x3 else x_entry_78 σ x0 x1 x2 x3 (0 : Int32)
noncomputable def x_entry_0 (σ : GS) (x0 : Nat) (x1 : Int32) (x2 : Int32) : Option Int32 :=
  if x2 < 0 then x_entry_9 σ else if x2 ≤ (2 : Int32) then ckT σ 1 x0 ((x_isEntry σ x0 x1).bind fun r4 => if r4 = 0 then some (-1 : Int32) else ckK σ 2 (gr σ x0 5) fun a7 => ckK σ 101 (gr σ a7 7) fun a10 => ckIn x1 (gn σ a10) (nx (gi σ a10 x1.toNatClampNeg) fun y14 => if x2 = 0 then some y14 else if y14 < (9 : Int32) then x_entry_55 σ x0 x1 x2 y14 else if y14 ≤ (12 : Int32) then x_entry_73 σ x0 x1 x2 y14 else x_entry_55 σ x0 x1 x2 y14)) else x_entry_9 σ
noncomputable def x_entry (σ : GS) (x0 : Nat) (x1 : Int32) (x2 : Int32) : Option Int32 := x_entry_0 σ x0 x1 x2
noncomputable def x_member_10 (σ : GS) : Option Int32 :=
  (none : Option Int32)
noncomputable def x_member_53 (σ : GS) (x0 : Nat) (x1 : Int32) (x2 : Int32) (x3 : Int32) (t0 : Int32) (t1 : Int32) : Option Int32 :=
  if t1 < t0 then if x1 = 0 then ckT σ 1 x0 (ckK σ 2 (gr σ x0 5) fun a60 => ckK σ 106 (gr σ a60 12) fun a63 => ckIn x2 (gn σ a63) (nx (gr σ a63 x2.toNatClampNeg) fun y67 => if x3 = 0 then ckK σ 3 y67 fun a85 => some (gi σ a85 4) else if x3 = (1 : Int32) then ckK σ 3 y67 fun a82 => some (gi σ a82 2) else if x3 = (2 : Int32) then ckK σ 3 y67 fun a79 => some (gi σ a79 3) else if x3 = (3 : Int32) then ckK σ 3 y67 fun a76 => some (gi σ a76 7) else if x3 = (4 : Int32) then ckK σ 3 y67 fun a73 => some (gi σ a73 5) else some (0 : Int32))) else ckT σ 1 x0 (ckK σ 2 (gr σ x0 5) fun a4 => ckK σ 107 (gr σ a4 13) fun a7 => ckIn x2 (gn σ a7) (nx (gr σ a7 x2.toNatClampNeg) fun y11 => if x3 = (0 : Int32) then ckK σ 4 y11 fun a13 => some (gi σ a13 5) else if x3 = (1 : Int32) then ckK σ 4 y11 fun a17 => some (gi σ a17 3) else if x3 = (2 : Int32) then ckK σ 4 y11 fun a21 => some (gi σ a21 4) else if x3 = (3 : Int32) then ckK σ 4 y11 fun a25 => some (gi σ a25 6) else if x3 = (4 : Int32) then ckK σ 4 y11 fun a29 => if (gi σ a29 10) = 0 then some (0 : Int32) else ckK σ 101 (gr σ a29 11) fun a33 => some (nI (gn σ a33)) else if x3 = (5 : Int32) then ckK σ 4 y11 fun a37 => some (gi σ a37 8) else if x3 = (6 : Int32) then ckK σ 4 y11 fun a41 => some (gi σ a41 9) else if x3 = (7 : Int32) then ckK σ 4 y11 fun a45 => ckK σ 100 (gr σ a45 12) fun a48 => ckD (4 : Int32) (some ((nI (gn σ a48)) / (4 : Int32))) else if x3 = (8 : Int32) then ckK σ 4 y11 fun a53 => some (gi σ a53 13) else ckK σ 4 y11 fun a56 => some (gi σ a56 7))) else some (-1 : Int32)
noncomputable def x_member_0 (σ : GS) (x0 : Nat) (x1 : Int32) (x2 : Int32) (x3 : Int32) : Option Int32 :=
  if x3 < 0 then x_member_10 σ else if x3 ≤ (9 : Int32) then ckT σ 1 x0 (if (gr σ x0 5) = none then some (-1 : Int32) else if x2 < 0 then some (-1 : Int32) else if x1 = 0 then ckK σ 2 (gr σ x0 5) fun a7 => ckK σ 106 (gr σ a7 12) fun a10 => x_member_53 σ x0 x1 x2 x3 (nI (gn σ a10)) x2 else ckK σ 2 (gr σ x0 5) fun a13 => ckK σ 107 (gr σ a13 13) fun a16 => x_member_53 σ x0 x1 x2 x3 (nI (gn σ a16)) x2) else x_member_10 σ
noncomputable def x_member (σ : GS) (x0 : Nat) (x1 : Int32) (x2 : Int32) (x3 : Int32) : Option Int32 := x_member_0 σ x0 x1 x2 x3
noncomputable def x_row_9 (σ : GS) : Option Int32 :=
  (none : Option Int32)
noncomputable def x_row_45 (σ : GS) : Option Int32 :=
  some (-1 : Int32)
noncomputable def x_row_0 (σ : GS) (x0 : Nat) (x1 : Int32) (x2 : Int32) (x3 : Int32) : Option Int32 :=
  if x3 < 0 then x_row_9 σ else if x3 ≤ (3 : Int32) then ckT σ 1 x0 ((x_methodAt σ x0 x1).bind fun r4 => if r4 = none then x_row_45 σ else if x2 < 0 then x_row_45 σ else ckK σ 4 r4 fun a8 => ckK σ 100 (gr σ a8 12) fun a11 => ckD (4 : Int32) (if x2 < ((nI (gn σ a11)) / (4 : Int32)) then ckIn (((4 : Int32) * x2) + x3) (gn σ a11) (some (gi σ a11 (((4 : Int32) * x2) + x3).toNatClampNeg)) else x_row_45 σ)) else x_row_9 σ
noncomputable def x_row (σ : GS) (x0 : Nat) (x1 : Int32) (x2 : Int32) (x3 : Int32) : Option Int32 := x_row_0 σ x0 x1 x2 x3
noncomputable def x_instruction_9 (fu : Nat) (σ : GS) : Option (Int32 × GS) :=
  (none : Option (Int32 × GS))
noncomputable def x_instruction_69 (fu : Nat) (σ : GS) (x2 : Int32) (x3 : Int32) (x4 : Option Nat) (x5 : Int32) (x6 : Int32) (t0 : Int32) : Option (Int32 × GS) :=
  if x3 = (0 : Int32) then some (x5, σ) else if x3 = (1 : Int32) then ckK σ 4 x4 fun a3 => ckK σ 100 (gr σ a3 16) fun a6 => ckIn x2 (gn σ a6) (some (gi σ a6 x2.toNatClampNeg, σ)) else if x3 = (2 : Int32) then if t0 = 0 then ckK σ 4 x4 fun a12 => ckK σ 100 (gr σ a12 18) fun a15 => ckIn x2 (gn σ a15) (some (gi σ a15 x2.toNatClampNeg, σ)) else ckK σ 4 x4 fun a19 => ckK σ 108 (gr σ a19 21) fun a22 => ckIn x2 (gn σ a22) (ckK σ 100 (gr σ a22 x2.toNatClampNeg) fun a26 => ckD (2 : Int32) (some ((nI (gn σ a26)) / (2 : Int32), σ))) else if x3 = (3 : Int32) then if x6 = 0 then ckK σ 4 x4 fun a32 => ckK σ 100 (gr σ a32 19) fun a35 => ckIn x2 (gn σ a35) (some (gi σ a35 x2.toNatClampNeg, σ)) else ckK σ 4 x4 fun a39 => ckK σ 100 (gr σ a39 18) fun a42 => ckIn x2 (gn σ a42) (ckK σ 108 (gr σ a39 21) fun a46 => ckIn x2 (gn σ a46) (ckK σ 100 (gr σ a46 x2.toNatClampNeg) fun a50 => some (((gi σ a42 x2.toNatClampNeg) + (nI (gn σ a50))) - (2 : Int32), σ))) else if x6 = 0 then if t0 = 0 then some ((0 : Int32), σ) else ckK σ 4 x4 fun a55 => ckK σ 108 (gr σ a55 21) fun a58 => ckIn x2 (gn σ a58) (ckK σ 100 (gr σ a58 x2.toNatClampNeg) fun a62 => ckD (2 : Int32) (some (((nI (gn σ a62)) / (2 : Int32)) + (1 : Int32), σ))) else ckK σ 4 x4 fun a66 => ckK σ 108 (gr σ a66 21) fun a69 => ckIn x2 (gn σ a69) (ckK σ 100 (gr σ a69 x2.toNatClampNeg) fun a73 => some (nI (gn σ a73), σ))
noncomputable def x_instruction_54 (fu : Nat) (σ : GS) (x2 : Int32) (x3 : Int32) (x4 : Option Nat) (x5 : Int32) (t0 : Int32) : Option (Int32 × GS) :=
  if x5 = (171 : Int32) then x_instruction_69 fu σ x2 x3 x4 x5 t0 (1 : Int32) else x_instruction_69 fu σ x2 x3 x4 x5 t0 (0 : Int32)
noncomputable def x_instruction_0 (fu : Nat) (σ : GS) (x0 : Nat) (x1 : Int32) (x2 : Int32) (x3 : Int32) : Option (Int32 × GS) :=
  if x3 < 0 then x_instruction_9 fu σ else if x3 ≤ (4 : Int32) then ckT σ 1 x0 ((x_cutAt fu σ x0 x1 x2).bind fun r4 => if r4.1 = none then some ((-1 : Int32), r4.2) else ckK r4.2 4 r4.1 fun a7 => ckK r4.2 100 (gr r4.2 a7 17) fun a10 => ckIn x2 (gn r4.2 a10) (nx (gi r4.2 a10 x2.toNatClampNeg) fun y14 => if y14 = (170 : Int32) then x_instruction_54 fu r4.2 x2 x3 r4.1 y14 (1 : Int32) else x_instruction_54 fu r4.2 x2 x3 r4.1 y14 (0 : Int32))) else x_instruction_9 fu σ
noncomputable def x_instruction (fu : Nat) (σ : GS) (x0 : Nat) (x1 : Int32) (x2 : Int32) (x3 : Int32) : Option (Int32 × GS) := x_instruction_0 fu σ x0 x1 x2 x3
end
