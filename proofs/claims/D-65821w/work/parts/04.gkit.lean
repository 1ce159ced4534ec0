/-! the component's world: an abstract heap. GS: kinds, lengths, numbers, longs, references (by address and place), the next address, cells and slots that are left, the first address that may be written, the literals -/
section GKit
set_option maxRecDepth 100000
def ckIn {α : Type} (i : Int32) (n : Nat) (k : Option α) : Option α := if i < 0 ∨ n ≤ i.toNatClampNeg then none else k
theorem ckIn_some {α : Type} {i : Int32} {n : Nat} {k : Option α} {r : α} (h : ckIn i n k = some r) : vp_in i n ∧ k = some r := by
  unfold ckIn at h
  split at h
  · cases h
  · rename_i q
    exact ⟨q, h⟩
theorem ckIn_in {α : Type} {i : Int32} {n : Nat} {k : Option α} (h : vp_in i n) : ckIn i n k = k := if_neg h
def ckD {α : Type} (y : Int32) (k : Option α) : Option α := if y = 0 then none else k
theorem ckD_some {α : Type} {y : Int32} {k : Option α} {r : α} (h : ckD y k = some r) : ¬ y = 0 ∧ k = some r := by
  unfold ckD at h
  split at h
  · cases h
  · rename_i q
    exact ⟨q, h⟩
def ckN {α : Type} (ty : FieldType) (x : Int32) (k : Option α) : Option α := if vp_nar ty x = x then k else none
theorem ckN_some {α : Type} {ty : FieldType} {x : Int32} {k : Option α} {r : α} (h : ckN ty x k = some r) : vp_nar ty x = x ∧ k = some r := by
  unfold ckN at h
  split at h
  · rename_i q
    exact ⟨q, h⟩
  · cases h
def nx {α β : Type} (a : α) (k : α → β) : β := k a
theorem nx_some {α β : Type} {a : α} {k : α → Option β} {r : β} (h : nx a k = some r) : ∃ y, a = y ∧ k y = some r := ⟨a, rfl, h⟩
theorem bnd_some {α β : Type} {o : Option α} {k : α → Option β} {r : β} (h : o.bind k = some r) : ∃ y, o = some y ∧ k y = some r := by
  cases o with
  | none => cases h
  | some y => exact ⟨y, rfl, h⟩
noncomputable def lpF {F : Type} (z : F) (b : F → F) (n : Nat) : F := Nat.rec z (fun _ r => b r) n
theorem nar_of_z {x : Int32} (h : vp_nar .boolean x = x) : narrow .boolean (.int x) = .int x := congrArg Value.int h
theorem nar_of_c {x : Int32} (h : vp_nar .char x = x) : narrow .char (.int x) = .int x := congrArg Value.int h
theorem nar_of_b {x : Int32} (h : vp_nar .byte x = x) : narrow .byte (.int x) = .int x := congrArg Value.int h
theorem fit_byte {x : Int32} (h : x.toInt8.toInt32 = x) : fits .byte (.int x) = true := by
  have h1 : x.toInt = (x.toInt8).toInt := by
    conv => lhs; rw [← h]
    simp
  have h2 := (x.toInt8).toInt_lt
  have h3 := (x.toInt8).le_toInt
  simp only [fits, Bool.and_eq_true, decide_eq_true_eq, Int32.le_iff_toInt_le]
  constructor
  · show (-128 : Int) ≤ _
    omega
  · show _ ≤ (127 : Int)
    omega
theorem fit_of_b {x : Int32} (h : vp_nar .byte x = x) : fits .byte (.int x) = true := fit_byte (by rw [← vp_nar_byte]; exact h)
theorem fit_of_z {x : Int32} (h : vp_nar .boolean x = x) : fits .boolean (.int x) = true := by
  have h9 : x &&& 1 = x := h
  have : x = 0 ∨ x = 1 := by
    obtain ⟨j, hj, e2⟩ := pk_andE x (m := 1) 1 (by decide)
    rw [h9] at e2
    rcases (show j = 0 ∨ j = 1 by omega) with rfl | rfl
    · left; rw [e2]; rfl
    · right; rw [e2]; rfl
  rcases this with rfl | rfl <;> rfl
theorem va_rf_cat (r : Option Nat) : (va_rf r).category = 1 := by cases r <;> rfl
abbrev GS : Type := (Nat → Nat) × (Nat → Nat) × (Nat → Nat → Int32) × (Nat → Nat → Int64) × (Nat → Nat → Option Nat) × Nat × Nat × Nat × Nat × (Nat → Nat)
def gk (σ : GS) : Nat → Nat := σ.1
def gn (σ : GS) : Nat → Nat := σ.2.1
def gi (σ : GS) : Nat → Nat → Int32 := σ.2.2.1
def gl (σ : GS) : Nat → Nat → Int64 := σ.2.2.2.1
def gr (σ : GS) : Nat → Nat → Option Nat := σ.2.2.2.2.1
def gx (σ : GS) : Nat := σ.2.2.2.2.2.1
def gc (σ : GS) : Nat := σ.2.2.2.2.2.2.1
def gs (σ : GS) : Nat := σ.2.2.2.2.2.2.2.1
def gb (σ : GS) : Nat := σ.2.2.2.2.2.2.2.2.1
def gz (σ : GS) : Nat → Nat := σ.2.2.2.2.2.2.2.2.2
def up2 {α : Type} (f : Nat → Nat → α) (a k : Nat) (v : α) : Nat → Nat → α := fun b j => if b = a ∧ j = k then v else f b j
def gpi (σ : GS) (a k : Nat) (v : Int32) : GS := (gk σ, gn σ, up2 (gi σ) a k v, gl σ, gr σ, gx σ, gc σ, gs σ, gb σ, gz σ)
def gpl (σ : GS) (a k : Nat) (v : Int64) : GS := (gk σ, gn σ, gi σ, up2 (gl σ) a k v, gr σ, gx σ, gc σ, gs σ, gb σ, gz σ)
def gpr (σ : GS) (a k : Nat) (v : Option Nat) : GS := (gk σ, gn σ, gi σ, gl σ, up2 (gr σ) a k v, gx σ, gc σ, gs σ, gb σ, gz σ)
/-- a new cell of kind k, length n (arrays), w slots -/
def gnew (σ : GS) (k n w : Nat) : GS := (fun b => if b = gx σ then k else gk σ b, fun b => if b = gx σ then n else gn σ b, fun b j => if b = gx σ then 0 else gi σ b j, fun b j => if b = gx σ then 0 else gl σ b j, fun b j => if b = gx σ then none else gr σ b j, gx σ + 1, gc σ - 1, gs σ - w, gb σ, gz σ)
/-- a stretch of numbers copied from one array to another -/
def gcpy (σ : GS) (a0 a sp dp n : Nat) : GS := (gk σ, gn σ, fun b j => if b = a then va_cpy (gi σ a0) (gi σ a) sp dp n j else gi σ b j, gl σ, gr σ, gx σ, gc σ, gs σ, gb σ, gz σ)
/-- a clone of the byte array a -/
def gcln (σ : GS) (a : Nat) : GS := (fun b => if b = gx σ then 101 else gk σ b, fun b => if b = gx σ then gn σ a else gn σ b, fun b j => if b = gx σ then gi σ a j else gi σ b j, fun b j => if b = gx σ then 0 else gl σ b j, fun b j => if b = gx σ then none else gr σ b j, gx σ + 1, gc σ - 1, gs σ - gn σ a, gb σ, gz σ)
/-- the classes by kind: 1 ClassGate, 2 Cls, 3 Fld, 4 Mth, 5 StringBuilder, 6 String -/
def gCl (k : Nat) : vw_C := match k with
  | 1 => (RX1, TX1, 13)
  | 2 => (RX3, TX3, 22)
  | 3 => (RX4, TX4, 8)
  | 4 => (RX5, TX5, 22)
  | 5 => (RJ1, TJ1, 4)
  | _ => (RJ2, TJ2, 2)
def gTy (k : Nat) : Nat → FieldType := match k with
  | 1 => tyX1
  | 2 => tyX3
  | 3 => tyX4
  | 4 => tyX5
  | 5 => tyJ1
  | _ => tyJ2
/-- elements of the arrays by kind -/
def gAty (k : Nat) : FieldType := match k with
  | 100 => .int
  | 101 => .byte
  | 104 => .long
  | 105 => .object "java/lang/String"
  | 106 => .object "ClassGate$Fld"
  | 107 => .object "ClassGate$Mth"
  | _ => .array .int
def gCo (k : Nat) : String := match k with
  | 105 => "java/lang/String"
  | 106 => "ClassGate$Fld"
  | 107 => "ClassGate$Mth"
  | _ => "[I"
def gtOf (ty : FieldType) : Nat := match ty with
  | .long => 1
  | .object _ => 2
  | .array _ => 2
  | _ => 0
def gval (t : Nat) (σ : GS) (a j : Nat) : Value := match t with
  | 0 => .int (gi σ a j)
  | 1 => .long (gl σ a j)
  | _ => va_rf (gr σ a j)
/-- what the world is told once: classes by kind, their slots, array classes by kind, classes of byte arrays, cells in all, slots in all, literals -/
abbrev gD : Type := (Nat → ClassId) × (Nat → Nat → Nat) × (Nat → ClassId) × (ClassId → Prop) × Nat × Nat × (Nat → Nat)
def gKA (k : Nat) : Prop := k = 100 ∨ k = 101 ∨ k = 104 ∨ k = 105 ∨ k = 106 ∨ k = 107 ∨ k = 108
def gwr (σ : GS) (a : Nat) : Prop := (gk σ a ≠ 6 ∧ gk σ a ≠ 101) ∨ gb σ ≤ a
def gob (D : gD) (σ : GS) (a : Nat) (cell : Cell) : Prop := (1 ≤ gk σ a ∧ gk σ a ≤ 6) ∧ cell.cls = D.1 (gk σ a) ∧ ∀ j, j < (gCl (gk σ a)).2.2 → cell.slots[D.2.1 (gk σ a) j]? = some (gval (gtOf (gTy (gk σ a) j)) σ a j)
def gar (D : gD) (σ : GS) (a : Nat) (cell : Cell) : Prop := gKA (gk σ a) ∧ (gwr σ a → cell.cls = D.2.2.1 (gk σ a)) ∧ (gk σ a = 101 → D.2.2.2.1 cell.cls) ∧ (gn σ a ≤ cell.slots.size ∧ cell.slots.size.toInt32 = nI (gn σ a) ∧ (gwr σ a → cell.slots.size = gn σ a)) ∧ gn σ a < 2 ^ 31 ∧ (∀ j, j < gn σ a → cell.slots[j]? = some (gval (gtOf (gAty (gk σ a))) σ a j)) ∧ (gk σ a = 101 → ∀ j, j < gn σ a → vp_nar .byte (gi σ a j) = gi σ a j)
/-- as it was made -/
def gclean (cell : Cell) : Prop := cell.vm = .none ∧ cell.monitor = {} ∧ cell.hash = none
def gat (D : gD) (σ : GS) (a : Nat) (H : Heap) : Prop :=
  ∃ cell : Cell, H[a]? = some cell ∧ cell.vm ≠ .unknown ∧ (∀ q, cell.vm ≠ .statics q) ∧ (gwr σ a → gclean cell) ∧ (gob D σ a cell ∨ gar D σ a cell)
def hsz (H : Heap) : Nat := (H.toList.map (fun c => c.slots.size)).sum
def gI (D : gD) (A : Nat → Prop) (σ : GS) (H : Heap) : Prop :=
  (∀ a, gk σ a ≠ 0 → gat D σ a H) ∧ (∀ a, gk σ a ≠ 0 → gwr σ a → A a) ∧ H.size = gx σ ∧ gx σ + gc σ = D.2.2.2.2.1 ∧ hsz H + gs σ = D.2.2.2.2.2.1 ∧ gz σ = D.2.2.2.2.2.2 ∧ gb σ ≤ gx σ ∧ ∀ q, gx σ ≤ q → A q
/-- what the tables say of the array classes -/
def gRA (U : State) (k : Nat) (cA : ClassId) : Prop := ∃ (kA : Class) (comp : ClassId), U.vm.classes[cA]? = some kA ∧ kA.kind = .array comp (gAty k) ∧ U.vm.findClass ("[" ++ (gAty k).toString) = some cA ∧ (105 ≤ k → U.vm.findClass (gCo k) = some comp ∧ ∃ kc, U.vm.classes[comp]? = some kc)
def gRB (U : State) (cA : ClassId) : Prop := ∃ (kA : Class) (comp : ClassId), U.vm.classes[cA]? = some kA ∧ kA.kind = .array comp .byte
def gK (D : gD) (U : State) : Prop :=
  (∀ k, 1 ≤ k → k ≤ 6 → u_Kn U (gCl k).1 (gCl k).2.1 (gCl k).2.2 (D.1 k) (D.2.1 k)) ∧ (∀ k, gKA k → gRA U k (D.2.2.1 k)) ∧ (∀ cid, D.2.2.2.1 cid → gRB U cid) ∧ D.2.2.2.1 (D.2.2.1 101)
theorem gRA.moved {u U : State} (hvm : u.vm.Alike U.vm) {k : Nat} {cA : ClassId} (h : gRA u k cA) : gRA U k cA := by
  obtain ⟨kA, comp, a1, a2, a3, a4⟩ := h
  obtain ⟨k', hk', he⟩ := hvm.2.2 _ _ a1
  refine ⟨k', comp, hk', by rw [he]; exact a2, by rw [hvm.findClass]; exact a3, fun hk => ?_⟩
  obtain ⟨b1, kc, b2⟩ := a4 hk
  obtain ⟨k2, hk2, -⟩ := hvm.2.2 _ _ b2
  exact ⟨by rw [hvm.findClass]; exact b1, k2, hk2⟩
theorem gRB.moved {u U : State} (hvm : u.vm.Alike U.vm) {cA : ClassId} (h : gRB u cA) : gRB U cA := by
  obtain ⟨kA, comp, a1, a2⟩ := h
  obtain ⟨k', hk', he⟩ := hvm.2.2 _ _ a1
  exact ⟨k', comp, hk', by rw [he]; exact a2⟩
theorem gK.moved {D : gD} {u U : State} (hvm : u.vm.Alike U.vm) (h : gK D u) : gK D U :=
  ⟨fun k h1 h2 => u_Kn_moved hvm (h.1 k h1 h2), fun k h1 => (h.2.1 k h1).moved hvm, fun c hc => (h.2.2.1 c hc).moved hvm, h.2.2.2⟩
theorem gin : ∀ k, 1 ≤ k → k ≤ 6 → ∀ w ∈ u_ws (gCl k).1 (gCl k).2.1 (gCl k).2.2, w ∈ lw_all := by
  intro k h1 h2
  have hJ2 : ∀ w ∈ u_ws RJ2 TJ2 2, w ∈ lw_all := by
    intro w hw
    refine in_J2 w ?_
    obtain ⟨j, hj, rfl⟩ := List.mem_map.mp hw
    exact List.mem_map.mpr ⟨j, List.mem_range.mpr (Nat.lt_trans (List.mem_range.mp hj) (by decide)), rfl⟩
  rcases (show k = 1 ∨ k = 2 ∨ k = 3 ∨ k = 4 ∨ k = 5 ∨ k = 6 by omega) with rfl | rfl | rfl | rfl | rfl | rfl
  · exact in_X1
  · exact in_X3
  · exact in_X4
  · exact in_X5
  · exact in_J1
  · exact hJ2
theorem gty_ok : ∀ k, 1 ≤ k → k ≤ 6 → ∀ j, j < (gCl k).2.2 → parseFieldDescriptor ((gCl k).2.1 j).2.2.1 = some (gTy k j) := by
  intro k h1 h2
  rcases (show k = 1 ∨ k = 2 ∨ k = 3 ∨ k = 4 ∨ k = 5 ∨ k = 6 by omega) with rfl | rfl | rfl | rfl | rfl | rfl
  · exact tyX1_ok
  · exact tyX3_ok
  · exact tyX4_ok
  · exact tyX5_ok
  · exact tyJ1_ok
  · exact fun j hj => tyJ2_ok j (Nat.lt_trans hj (by decide))
theorem gnm_ok : ∀ k, 1 ≤ k → k ≤ 6 → ∀ a, a < (gCl k).2.2 → ∀ b, b < (gCl k).2.2 → a ≠ b → ((gCl k).2.1 a).2.1 ≠ ((gCl k).2.1 b).2.1 := by
  intro k h1 h2
  rcases (show k = 1 ∨ k = 2 ∨ k = 3 ∨ k = 4 ∨ k = 5 ∨ k = 6 by omega) with rfl | rfl | rfl | rfl | rfl | rfl
  · exact nmX1
  · exact nmX3
  · exact nmX4
  · exact nmX5
  · exact nmJ1
  · exact fun a ha b hb => nmJ2 a (Nat.lt_trans ha (by decide)) b (Nat.lt_trans hb (by decide))
/-! sizes of heaps -/
theorem hsz_same {H H1 : Heap} (z : H1.size = H.size) (o : ∀ q : Nat, (H1[q]?).map (fun c => c.slots.size) = (H[q]?).map (fun c => c.slots.size)) : hsz H1 = hsz H := by
  unfold hsz
  congr 1
  apply List.ext_getElem?
  intro i
  rw [List.getElem?_map, List.getElem?_map, Array.getElem?_toList, Array.getElem?_toList]
  exact o i
theorem hsz_put {H H1 : Heap} {a : Nat} {cell c1 : Cell} (z : H1.size = H.size) (h0 : H[a]? = some cell) (h1 : H1[a]? = some c1) (hs : c1.slots.size = cell.slots.size) (o : ∀ q : Nat, q ≠ a → H1[q]? = H[q]?) : hsz H1 = hsz H := by
  refine hsz_same z fun q => ?_
  by_cases hq : q = a
  · subst hq
    rw [h0, h1]
    simp [hs]
  · rw [o q hq]
theorem hsz_push {H H1 : Heap} {cell : Cell} (z : H1.size = H.size + 1) (e : H1[H.size]? = some cell) (o : ∀ q : Nat, q < H.size → H1[q]? = H[q]?) : hsz H1 = hsz H + cell.slots.size := by
  have hh : H1 = H.push cell := by
    apply Array.ext_getElem?
    intro i
    rw [Array.getElem?_push]
    by_cases hi : i = H.size
    · subst hi
      simp [e]
    · rw [if_neg hi]
      by_cases hl : i < H.size
      · exact o i hl
      · rw [Array.getElem?_eq_none (by omega), Array.getElem?_eq_none (by omega)]
  subst hh
  unfold hsz
  simp
theorem hsz_split {H0 H : Heap} (h2 : H0.size ≤ H.size) (h6 : ∀ (a : Nat) (c : Cell), H0[a]? = some c → ∃ c' : Cell, H[a]? = some c' ∧ c'.slots.size = c.slots.size) : hsz H = hsz H0 + ((H.toList.drop H0.size).map (fun c => c.slots.size)).sum := by
  unfold hsz
  have e1 : H.toList = H.toList.take H0.size ++ H.toList.drop H0.size := (List.take_append_drop _ _).symm
  have e2 : (H.toList.take H0.size).map (fun c => c.slots.size) = H0.toList.map (fun c => c.slots.size) := by
    apply List.ext_getElem?
    intro i
    rw [List.getElem?_map, List.getElem?_map, List.getElem?_take]
    by_cases hi : i < H0.size
    · rw [if_pos hi, Array.getElem?_toList, Array.getElem?_toList]
      obtain ⟨c', a1, a2⟩ := h6 i H0[i] (Array.getElem?_eq_getElem hi)
      rw [a1, Array.getElem?_eq_getElem hi]
      simp [a2]
    · rw [if_neg hi, Array.getElem?_toList, Array.getElem?_eq_none (by omega)]
  conv => lhs; rw [e1, List.map_append, List.sum_append, e2]
section Nar
variable {p : Program} {l : Launch} {e : Env} {R : Room} {s : State} {m : MethodId} {args : Array Value} {below : List Frame} {meth : Method} {c : Code} {H : Heap} {locs : List Loc} {cells slots : Nat} {Q : State → Prop} {g : JFrame}
/-- what is booked is what is there -/
theorem W.nar (kk : W p l e R s m args below meth c H locs (H.size - s.heap.size) (hsz H - hsz s.heap) Q g) : W p l e R s m args below meth c H locs cells slots Q g := by
  intro T hT X
  refine kk T hT { X with same := ?_ }
  obtain ⟨h1, h2, h3, h4, h5, h6⟩ := X.same
  refine ⟨h1, h2, ?_, h4, ?_, h6⟩
  · show T.heap.size ≤ s.heap.size + (H.size - s.heap.size)
    rw [hT]
    omega
  · have hs := hsz_split (H0 := s.heap) (H := (T.setVm s.vm).heap) h2 (fun a c hc => by
      obtain ⟨c', q1, q2, q3, -⟩ := h6 a c hc
      exact ⟨c', q1, q3⟩)
    have hh : (T.setVm s.vm).heap = H := hT
    rw [hh] at hs ⊢
    omega
end Nar
/-! what holds all through: literals, statics, words of nest mates, arrays over classes -/
def gLo (j : Nat) : String := (["ClassGate", "ClassGate", "ClassGate", "ClassGate", "ClassGate", "ClassGate", "ClassGate", "ClassGate", "ClassGate", "ClassGate", "ClassGate", "ClassGate", "ClassGate", "ClassGate", "ClassGate", "ClassGate$Mth"] : List String).getD j ""
def gLi (j : Nat) : Nat := ([82, 259, 280, 346, 348, 350, 352, 354, 356, 358, 360, 362, 364, 424, 320, 21] : List Nat).getD j 0
def gLt (j : Nat) : String := (["ZCFDBSIJ", "<init>", "java/lang/Object", "ConstantValue", "Code", "Exceptions", "StackMapTable", "InnerClasses", "BootstrapMethods", "NestHost", "NestMembers", "Record", "PermittedSubclasses", "Ljava/lang/String;", "<clinit>", "<init>"] : List String).getD j ""
def gLb (j : Nat) : List Int32 := ([[90, 67, 70, 68, 66, 83, 73, 74], [60, 105, 110, 105, 116, 62], [106, 97, 118, 97, 47, 108, 97, 110, 103, 47, 79, 98, 106, 101, 99, 116], [67, 111, 110, 115, 116, 97, 110, 116, 86, 97, 108, 117, 101], [67, 111, 100, 101], [69, 120, 99, 101, 112, 116, 105, 111, 110, 115], [83, 116, 97, 99, 107, 77, 97, 112, 84, 97, 98, 108, 101], [73, 110, 110, 101, 114, 67, 108, 97, 115, 115, 101, 115], [66, 111, 111, 116, 115, 116, 114, 97, 112, 77, 101, 116, 104, 111, 100, 115], [78, 101, 115, 116, 72, 111, 115, 116], [78, 101, 115, 116, 77, 101, 109, 98, 101, 114, 115], [82, 101, 99, 111, 114, 100], [80, 101, 114, 109, 105, 116, 116, 101, 100, 83, 117, 98, 99, 108, 97, 115, 115, 101, 115], [76, 106, 97, 118, 97, 47, 108, 97, 110, 103, 47, 83, 116, 114, 105, 110, 103, 59], [60, 99, 108, 105, 110, 105, 116, 62], [60, 105, 110, 105, 116, 62]] : List (List Int32)).getD j []
def gZw (w : Nat) : Cond := match w with
  | 0 => .methodLinkNest "ClassGate" 149 ⟨"ClassGate$Cls", "<init>", "()V"⟩ "ClassGate"
  | 1 => .methodLinkNest "ClassGate" 293 ⟨"ClassGate$Fld", "<init>", "()V"⟩ "ClassGate"
  | _ => .methodLinkNest "ClassGate" 329 ⟨"ClassGate$Mth", "<init>", "()V"⟩ "ClassGate"
/-- private methods of StringBuilder's superclass, called on a StringBuilder -/
def gZs (j : Nat) : Cond := match j with
  | 0 => .selects "java/lang/StringBuilder" yJ0_ensureCapacityInternal yJ0_ensureCapacityInternal
  | 1 => .selects "java/lang/StringBuilder" yJ0_newCapacity yJ0_newCapacity
  | _ => .selects "java/lang/StringBuilder" yJ0_inflate yJ0_inflate
theorem gZs_good (j : Nat) : (gZs j).onTables = true ∧ (gZs j).keeps = true := by
  unfold gZs
  split <;> exact ⟨rfl, rfl⟩
def gZ (D : gD) (A : Nat → Prop) (U : State) : Prop :=
  (∀ j, j < 16 → vk_R (gLo j) (gLi j) (gLt j) (D.2.2.2.2.2.2 j) U) ∧
  va_Z "java/lang/String" "COMPACT_STRINGS" "Z" (.int 1) A U U.heap ∧ va_Z "java/lang/StringUTF16" "$assertionsDisabled" "Z" (.int 1) A U U.heap ∧
  va_Z "java/lang/StringUTF16" "HI_BYTE_SHIFT" "I" (.int 0) A U U.heap ∧ va_Z "java/lang/StringUTF16" "LO_BYTE_SHIFT" "I" (.int 8) A U U.heap ∧
  va_Zq "jdk/internal/util/Preconditions" "SIOOBE_FORMATTER" "Ljava/util/function/BiFunction;" A U U.heap ∧
  (va_Nw (gZw 0) U ∧ va_Nw (gZw 1) U ∧ va_Nw (gZw 2) U) ∧ (va_AO "java/lang/String" U ∧ va_AO "ClassGate$Fld" U ∧ va_AO "ClassGate$Mth" U) ∧
  (Cond.arrayOver (.array .int)).before #[] U = true ∧ va_Nw (.castable "[B" "java/lang/Cloneable") U ∧ ∀ j, j < 3 → va_Nw (gZs j) U
theorem gZ.hand {D : gD} {A : Nat → Prop} {s U : State} {H : Heap} {locs : List Loc} (h : gZ D A s) (hS : va_S A s.heap H locs) (hU : U.heap = H) (hW : s.WarmedH U.vm) : gZ D A U := by
  obtain ⟨h1, h2, h3, h4, h5, h6, ⟨w0, w1, w2⟩, ⟨o0, o1, o2⟩, h9, h10, h11⟩ := h
  subst hU
  have al := hW.alike
  refine ⟨fun j hj => (h1 j hj).warm hW, ?_, ?_, ?_, ?_, ?_, ⟨va_Nw.warmM hW w0, va_Nw.warmM hW w1, va_Nw.warmM hW w2⟩, ⟨va_AO.moved al o0, va_AO.moved al o1, va_AO.moved al o2⟩, over_moved al h9, va_Nw.warmC hW h10, fun j hj => word_at hW (Or.inl (by rw [(gZs_good j).1, (gZs_good j).2]; rfl)) (h11 j hj)⟩
  · exact va_Z.moved al (h2.kept hS.2.1)
  · exact va_Z.moved al (h3.kept hS.2.1)
  · exact va_Z.moved al (h4.kept hS.2.1)
  · exact va_Z.moved al (h5.kept hS.2.1)
  · exact va_Zq.moved al (h6.kept hS.2.1)
theorem gZ.same {D : gD} {A : Nat → Prop} {u U : State} (hv : U.vm = u.vm) (hh : U.heap = u.heap) (h : gZ D A u) : gZ D A U := by
  obtain ⟨h1, h2, h3, h4, h5, h6, ⟨w0, w1, w2⟩, ⟨o0, o1, o2⟩, h9, h10, h11⟩ := h
  have al : u.vm.Alike U.vm := by rw [hv]; exact Vm.Alike.refl _
  refine ⟨fun j hj => (h1 j hj).same hv, ?_, ?_, ?_, ?_, ?_, ⟨w0.same rfl hv.symm, w1.same rfl hv.symm, w2.same rfl hv.symm⟩, ⟨va_AO.moved al o0, va_AO.moved al o1, va_AO.moved al o2⟩, over_moved al h9, h10.same rfl hv.symm, fun j hj => (h11 j hj).same (gZs_good j).1 hv.symm⟩
  · rw [hh]; exact va_Z.moved al h2
  · rw [hh]; exact va_Z.moved al h3
  · rw [hh]; exact va_Z.moved al h4
  · rw [hh]; exact va_Z.moved al h5
  · rw [hh]; exact va_Zq.moved al h6
def gU (D : gD) (A : Nat → Prop) (σ : GS) (U : State) : Prop := gI D A σ U.heap ∧ gK D U ∧ gZ D A U
def gQ (v : Option Value) (D : gD) (A : Nat → Prop) (σ : GS) : Array Value → State → Outcome → State → Prop := fun _ st oc t => oc = .returned v ∧ gI D A σ t.heap ∧ va_F A st t
theorem gU.blind {D : gD} {A : Nat → Prop} {σ : GS} {av : List Value} : FrameBlind (va_Pc av (gU D A σ)) := by
  intro a U g mk ⟨h1, hI, hK, hZ⟩
  exact ⟨h1, hI, hK.moved (u := U) (U := U.calling g mk a) (Vm.Alike.refl U.vm), hZ.same (u := U) (U := U.calling g mk a) rfl rfl⟩
/-! the walks' own checks -/
def ckK {β : Type} (σ : GS) (K : Nat) (r : Option Nat) (k : Nat → Option β) : Option β := match r with
  | none => none
  | some a => if gk σ a = K then k a else none
theorem ckK_some {β : Type} {σ : GS} {K : Nat} {r : Option Nat} {k : Nat → Option β} {x : β} (h : ckK σ K r k = some x) : ∃ a, r = some a ∧ gk σ a = K ∧ k a = some x := by
  unfold ckK at h
  cases r with
  | none => cases h
  | some a =>
    dsimp only at h
    split at h
    · rename_i q
      exact ⟨a, rfl, q, h⟩
    · cases h
def ckT {β : Type} (σ : GS) (K a : Nat) (k : Option β) : Option β := if gk σ a = K then k else none
theorem ckT_some {β : Type} {σ : GS} {K a : Nat} {k : Option β} {x : β} (h : ckT σ K a k = some x) : gk σ a = K ∧ k = some x := by
  unfold ckT at h
  split at h
  · rename_i q
    exact ⟨q, h⟩
  · cases h
/-- a reference that is there -/
def ckR {β : Type} (r : Option Nat) (k : Nat → Option β) : Option β := match r with
  | none => none
  | some a => k a
theorem ckR_some {β : Type} {r : Option Nat} {k : Nat → Option β} {x : β} (h : ckR r k = some x) : ∃ a, r = some a ∧ k a = some x := by
  cases r with
  | none => cases h
  | some a => exact ⟨a, rfl, h⟩
/-- a place that may be written -/
def ckW {β : Type} (σ : GS) (a : Nat) (k : Option β) : Option β := if gb σ ≤ a then k else none
theorem ckW_some {β : Type} {σ : GS} {a : Nat} {k : Option β} {x : β} (h : ckW σ a k = some x) : gb σ ≤ a ∧ k = some x := by
  unfold ckW at h
  split at h
  · rename_i q
    exact ⟨q, h⟩
  · cases h
/-- room for a new cell of w slots -/
def ckC {β : Type} (σ : GS) (w : Nat) (k : Option β) : Option β := if 1 ≤ gc σ ∧ w ≤ gs σ then k else none
theorem ckC_some {β : Type} {σ : GS} {w : Nat} {k : Option β} {x : β} (h : ckC σ w k = some x) : (1 ≤ gc σ ∧ w ≤ gs σ) ∧ k = some x := by
  unfold ckC at h
  split at h
  · rename_i q
    exact ⟨q, h⟩
  · cases h
/-- the length of a new array -/
def ckL {β : Type} (n : Int32) (k : Option β) : Option β := if 0 ≤ n ∧ n.toNatClampNeg ≤ 16777216 then k else none
theorem ckL_some {β : Type} {n : Int32} {k : Option β} {x : β} (h : ckL n k = some x) : (0 ≤ n ∧ n.toNatClampNeg ≤ 16777216) ∧ k = some x := by
  unfold ckL at h
  split at h
  · rename_i q
    exact ⟨q, h⟩
  · cases h
/-- what is stored into an array of references: null, or of the kind -/
def ckE {β : Type} (σ : GS) (K : Nat) (r : Option Nat) (k : Option β) : Option β := match r with
  | none => none
  | some a => if gk σ a = K then k else none
theorem ckE_some {β : Type} {σ : GS} {K : Nat} {r : Option Nat} {k : Option β} {x : β} (h : ckE σ K r k = some x) : (∃ a, r = some a ∧ gk σ a = K) ∧ k = some x := by
  unfold ckE at h
  cases r with
  | none => cases h
  | some a =>
    dsimp only at h
    split at h
    · rename_i q
      exact ⟨⟨a, rfl, q⟩, h⟩
    · cases h
/-- arraycopy's stretch -/
def ckY {β : Type} (σ : GS) (a0 a : Nat) (sp dp n : Int32) (k : Option β) : Option β := if (0 ≤ sp ∧ 0 ≤ dp ∧ 0 ≤ n) ∧ (sp.toNatClampNeg + n.toNatClampNeg ≤ gn σ a0 ∧ dp.toNatClampNeg + n.toNatClampNeg ≤ gn σ a) ∧ gb σ ≤ a0 ∧ gb σ ≤ a then k else none
theorem ckY_some {β : Type} {σ : GS} {a0 a : Nat} {sp dp n : Int32} {k : Option β} {x : β} (h : ckY σ a0 a sp dp n k = some x) : ((0 ≤ sp ∧ 0 ≤ dp ∧ 0 ≤ n) ∧ (sp.toNatClampNeg + n.toNatClampNeg ≤ gn σ a0 ∧ dp.toNatClampNeg + n.toNatClampNeg ≤ gn σ a) ∧ gb σ ≤ a0 ∧ gb σ ≤ a) ∧ k = some x := by
  unfold ckY at h
  split at h
  · rename_i q
    exact ⟨q, h⟩
  · cases h
/-! how the relation moves -/
theorem gI.upd {D : gD} {A : Nat → Prop} {σ σ' : GS} {H H1 : Heap} {a : Nat} {cell c1 : Cell} (hI : gI D A σ H) (e1 : gk σ' = gk σ) (e2 : gn σ' = gn σ) (e3 : gx σ' = gx σ) (e4 : gc σ' = gc σ) (e5 : gs σ' = gs σ) (e6 : gb σ' = gb σ) (e7 : gz σ' = gz σ)
    (hv : ∀ b, b ≠ a → ∀ j, gi σ' b j = gi σ b j ∧ gl σ' b j = gl σ b j ∧ gr σ' b j = gr σ b j) (h0 : H[a]? = some cell) (h1 : H1[a]? = some c1) (hs : c1.slots.size = cell.slots.size) (z : H1.size = H.size) (oq : ∀ q, q ≠ a → H1[q]? = H[q]?) (ha : gat D σ' a H1) : gI D A σ' H1 := by
  obtain ⟨i1, i2, i3, i4, i5, i6, i7, i8⟩ := hI
  refine ⟨fun b hb => ?_, fun b hb hw => ?_, by rw [z, e3]; exact i3, by rw [e3, e4]; exact i4, ?_, by rw [e7]; exact i6, by rw [e6, e3]; exact i7, fun q hq => i8 q (by rw [← e3]; exact hq)⟩
  · by_cases hba : b = a
    · subst hba
      exact ha
    · rw [e1] at hb
      obtain ⟨cb, q1, q2, q3, q4, q5⟩ := i1 b hb
      have hgv : ∀ t j, gval t σ' b j = gval t σ b j := by
        intro t j
        obtain ⟨x1, x2, x3⟩ := hv b hba j
        unfold gval
        split
        · rw [x1]
        · rw [x2]
        · rw [x3]
      have hw : gwr σ' b ↔ gwr σ b := by unfold gwr; rw [e1, e6]
      refine ⟨cb, by rw [oq b hba]; exact q1, q2, q3, fun h => q4 (hw.mp h), ?_⟩
      rcases q5 with q5 | q5
      · left
        obtain ⟨y1, y2, y3⟩ := q5
        refine ⟨by rw [e1]; exact y1, by rw [e1]; exact y2, fun j hj => ?_⟩
        rw [e1] at hj ⊢
        rw [hgv]
        exact y3 j hj
      · right
        obtain ⟨y1, y2, y3, y4, y5, y6, y7⟩ := q5
        refine ⟨by rw [e1]; exact y1, fun h => by rw [e1]; exact y2 (hw.mp h), fun h => y3 (by rw [← e1]; exact h), (by rw [e2]; exact ⟨y4.1, y4.2.1, fun h => y4.2.2 (hw.mp h)⟩), by rw [e2]; exact y5, fun j hj => ?_, fun h j hj => ?_⟩
        · rw [e2] at hj
          rw [hgv, e1]
          exact y6 j hj
        · rw [e2] at hj
          rw [(hv b hba j).1]
          exact y7 (by rw [← e1]; exact h) j hj
  · rw [e1] at hb
    refine i2 b hb ?_
    unfold gwr at hw ⊢
    rw [e1, e6] at hw
    exact hw
  · rw [e5, hsz_put z h0 h1 hs oq]
    exact i5
theorem gI.push {D : gD} {A : Nat → Prop} {σ σ' : GS} {H H1 : Heap} {c1 : Cell} {w : Nat} (hI : gI D A σ H) (hroom : 1 ≤ gc σ ∧ w ≤ gs σ) (e1 : ∀ b, b ≠ gx σ → gk σ' b = gk σ b ∧ gn σ' b = gn σ b ∧ ∀ j, gi σ' b j = gi σ b j ∧ gl σ' b j = gl σ b j ∧ gr σ' b j = gr σ b j) (e3 : gx σ' = gx σ + 1) (e4 : gc σ' = gc σ - 1) (e5 : gs σ' = gs σ - w) (e6 : gb σ' = gb σ) (e7 : gz σ' = gz σ)
    (h1 : H1[H.size]? = some c1) (hs : c1.slots.size = w) (z : H1.size = H.size + 1) (oq : ∀ q, q < H.size → H1[q]? = H[q]?) (ha : gat D σ' (gx σ) H1) : gI D A σ' H1 := by
  obtain ⟨i1, i2, i3, i4, i5, i6, i7, i8⟩ := hI
  refine ⟨fun b hb => ?_, fun b hb hw => ?_, by rw [z, e3, i3], by rw [e3, e4]; omega, ?_, by rw [e7]; exact i6, by rw [e6, e3]; omega, fun q hq => i8 q (by rw [e3] at hq; omega)⟩
  · by_cases hba : b = gx σ
    · subst hba
      exact ha
    · obtain ⟨x1, x2, x3⟩ := e1 b hba
      rw [x1] at hb
      obtain ⟨cb, q1, q2, q3, q4, q5⟩ := i1 b hb
      have hlt : b < H.size := (Array.getElem?_eq_some_iff.mp q1).1
      have hgv : ∀ t j, gval t σ' b j = gval t σ b j := by
        intro t j
        obtain ⟨y1, y2, y3⟩ := x3 j
        unfold gval
        split
        · rw [y1]
        · rw [y2]
        · rw [y3]
      have hw : gwr σ' b ↔ gwr σ b := by unfold gwr; rw [x1, e6]
      refine ⟨cb, by rw [oq b hlt]; exact q1, q2, q3, fun h => q4 (hw.mp h), ?_⟩
      rcases q5 with q5 | q5
      · left
        obtain ⟨y1, y2, y3⟩ := q5
        refine ⟨by rw [x1]; exact y1, by rw [x1]; exact y2, fun j hj => ?_⟩
        rw [x1] at hj ⊢
        rw [hgv]
        exact y3 j hj
      · right
        obtain ⟨y1, y2, y3, y4, y5, y6, y7⟩ := q5
        refine ⟨by rw [x1]; exact y1, fun h => by rw [x1]; exact y2 (hw.mp h), fun h => y3 (by rw [← x1]; exact h), (by rw [x2]; exact ⟨y4.1, y4.2.1, fun h => y4.2.2 (hw.mp h)⟩), by rw [x2]; exact y5, fun j hj => ?_, fun h j hj => ?_⟩
        · rw [x2] at hj
          rw [hgv, x1]
          exact y6 j hj
        · rw [x2] at hj
          rw [(x3 j).1]
          exact y7 (by rw [← x1]; exact h) j hj
  · by_cases hba : b = gx σ
    · exact i8 b (by omega)
    · obtain ⟨x1, -, -⟩ := e1 b hba
      rw [x1] at hb
      refine i2 b hb ?_
      unfold gwr at hw ⊢
      rw [x1, e6] at hw
      exact hw
  · rw [e5, hsz_push z h1 oq, hs]
    omega
section Rows
variable {p : Program} {l : Launch} {e : Env} {R : Room} {s : State} {m : MethodId} {args : Array Value} {below : List Frame} {meth : Method} {c : Code} {H : Heap} {locs : List Loc} {cells slots : Nat} {Q : State → Prop}
variable {cc : ByteArray} {pc nL : Nat} {ls : Array Slot} {rest : List Value} {D : gD} {A : Nat → Prop} {σ : GS} {own : String}
def gS (own : String) (R : Room) (p : Program) (c : Code) (cc : ByteArray) (nL : Nat) (m : MethodId) (s : State) (args : Array Value) (D : gD) (A : Nat → Prop) : Prop :=
  p.tables.exec = Jvm.exec ∧ c.code = cc ∧ c.maxLocals = nL ∧ s.vm.findClass own = some m.cls ∧ (∀ w ∈ lw_all, w.before args s = true) ∧ gK D s ∧ gZ D A s ∧ R.cells + s.heap.size = D.2.2.2.2.1 ∧ R.slots + hsz s.heap = D.2.2.2.2.2.1
theorem gobj (hI : gI D A σ H) {a K : Nat} (hk : gk σ a = K) (h1 : 1 ≤ K ∧ K ≤ 6) : ∃ cell : Cell, H[a]? = some cell ∧ cell.vm ≠ .unknown ∧ (∀ q, cell.vm ≠ .statics q) ∧ (gwr σ a → gclean cell) ∧ gob D σ a cell := by
  subst hk
  obtain ⟨cell, q1, q2, q3, q4, q5 | q5⟩ := hI.1 a (by omega)
  · exact ⟨cell, q1, q2, q3, q4, q5⟩
  · have := q5.1
    unfold gKA at this
    omega
theorem garr (hI : gI D A σ H) {a K : Nat} (hk : gk σ a = K) (h1 : gKA K) : ∃ cell : Cell, H[a]? = some cell ∧ cell.vm ≠ .unknown ∧ (∀ q, cell.vm ≠ .statics q) ∧ (gwr σ a → gclean cell) ∧ gar D σ a cell := by
  subst hk
  have hne : gk σ a ≠ 0 := by unfold gKA at h1; omega
  obtain ⟨cell, q1, q2, q3, q4, q5 | q5⟩ := hI.1 a hne
  · have := q5.1
    unfold gKA at h1
    omega
  · exact ⟨cell, q1, q2, q3, q4, q5⟩
theorem gar_of {a K : Nat} {cell : Cell} (hK : gK D s) (hk : gk σ a = K) (q3 : ∀ q, cell.vm ≠ .statics q) (h : gar D σ a cell) : s.isArrayOf cell (gAty K) := by
  subst hk
  refine ⟨q3, ?_⟩
  obtain ⟨y1, y2, y3, -⟩ := h
  by_cases h101 : gk σ a = 101
  · obtain ⟨kA, comp, r1, r2⟩ := hK.2.2.1 _ (y3 h101)
    exact ⟨kA, r1, comp, by rw [h101]; exact r2⟩
  · have hw : gwr σ a := by
      left
      refine ⟨?_, h101⟩
      unfold gKA at y1
      omega
    obtain ⟨kA, comp, r1, r2, -⟩ := hK.2.1 _ y1
    exact ⟨kA, by rw [y2 hw]; exact r1, comp, r2⟩
theorem g_get (S : gS own R p c cc nL m s args D A) (hI : gI D A σ H) {r : Option Nat} {a K : Nat} (hr : r = some a) (hk : gk σ a = K) (h1 : 1 ≤ K ∧ K ≤ 6) (j : Nat) (hj : j < (gCl K).2.2) {idx : Nat} {v : Value} (hv : gval (gtOf (gTy K j)) σ a j = v) (hq : Cond.fieldLink own idx ((gCl K).2.1 j).1 ((gCl K).2.1 j).2.1 ((gCl K).2.1 j).2.2.1 ∈ lw_all) (hdg : decode cc pc = .ok (.getfield idx, 3))
    (kk : W p l e R s m args below meth c H locs cells slots Q (F0 m (pc + 3) ls (v :: rest))) : W p l e R s m args below meth c H locs cells slots Q (F0 m pc ls (va_rf r :: rest)) := by
  obtain ⟨hx, hb, -, hown, hts, hK, -⟩ := S
  subst hr
  obtain ⟨cell, q1, q2, q3, q4, -, -, q5⟩ := gobj hI hk h1
  subst hk
  obtain ⟨hS, hfc, kC, hkC, hkind⟩ := hK.1 (gk σ a) h1.1 h1.2
  obtain ⟨cf, kf, fi, f, hi, hsl⟩ := hS j hj
  refine W.getf hx hb hown (hts _ hq) hi (u_facts hfc hkC (u_lays hts (gin _ h1.1 h1.2) hj) hi).1 q1 q2 (v := v) ?_ rfl rfl hdg kk
  rw [hsl, q5 j hj, hv]
theorem g_apart {args : Array Value} {s : State} (hts : ∀ w ∈ lw_all, w.before args s = true) (hK : gK D s) {K : Nat} (h1 : 1 ≤ K ∧ K ≤ 6) : ∀ x y, x < (gCl K).2.2 → y < (gCl K).2.2 → x ≠ y → D.2.1 K x ≠ D.2.1 K y := by
  intro x y hx hy hne
  obtain ⟨hS, -⟩ := hK.1 K h1.1 h1.2
  obtain ⟨_, _, _, fa, hia, ea⟩ := hS x hx
  obtain ⟨_, _, _, fb, hib, eb⟩ := hS y hy
  rw [← ea, ← eb]
  refine u_apart (u_lays hts (gin _ h1.1 h1.2) hx) (u_lays hts (gin _ h1.1 h1.2) hy) hia hib ?_
  rw [(State.fieldFound?_type hia (gty_ok K h1.1 h1.2 x hx)).1, (State.fieldFound?_type hib (gty_ok K h1.1 h1.2 y hy)).1]
  exact gnm_ok K h1.1 h1.2 x hx y hy hne
/-- the relation behind a store into the field j of the object a -/
theorem gI.field {σ' : GS} {H1 : Heap} {a K j : Nat} {cell : Cell} {v : Value} (hI : gI D A σ H) (hk : gk σ a = K) (h1 : 1 ≤ K ∧ K ≤ 6) (hap : ∀ x y, x < (gCl K).2.2 → y < (gCl K).2.2 → x ≠ y → D.2.1 K x ≠ D.2.1 K y) (hj : j < (gCl K).2.2)
    (e1 : gk σ' = gk σ) (e2 : gn σ' = gn σ) (e3 : gx σ' = gx σ) (e4 : gc σ' = gc σ) (e5 : gs σ' = gs σ) (e6 : gb σ' = gb σ) (e7 : gz σ' = gz σ)
    (hv : ∀ b i, ¬ (b = a ∧ i = j) → gi σ' b i = gi σ b i ∧ gl σ' b i = gl σ b i ∧ gr σ' b i = gr σ b i) (hn : gval (gtOf (gTy K j)) σ' a j = v)
    (h0 : H[a]? = some cell) (h2 : H1[a]? = some (cell.setSlot (D.2.1 K j) v)) (z : H1.size = H.size) (oq : ∀ q, q ≠ a → H1[q]? = H[q]?) : gI D A σ' H1 := by
  obtain ⟨cell', q1, q2, q3, q4, q5, q6, q7⟩ := gobj hI hk h1
  cases h0.symm.trans q1
  subst hk
  refine hI.upd e1 e2 e3 e4 e5 e6 e7 (fun b hb i => hv b i (fun h => hb h.1)) h0 h2 (k2_slotsz _ _ _) z oq ⟨_, h2, q2, q3, fun h => q4 (by unfold gwr at h ⊢; rw [e1, e6] at h; exact h), Or.inl ⟨by rw [e1]; exact q5, by rw [e1]; exact q6, fun i hi => ?_⟩⟩
  rw [e1] at hi ⊢
  by_cases hij : i = j
  · subst hij
    rw [hn]
    have := k2_hasslot (q7 i hi)
    simp [Cell.setSlot, Array.getElem?_setIfInBounds, this]
  · have hne := hap i j hi hj hij
    have hg : gval (gtOf (gTy (gk σ a) i)) σ' a i = gval (gtOf (gTy (gk σ a) i)) σ a i := by
      obtain ⟨x1, x2, x3⟩ := hv a i (fun h => hij h.2)
      unfold gval
      split
      · rw [x1]
      · rw [x2]
      · rw [x3]
    rw [hg, ← q7 i hi]
    simp [Cell.setSlot, Array.getElem?_setIfInBounds, Ne.symm hne]
theorem g_putG (S : gS own R p c cc nL m s args D A) (hI : gI D A σ H) (hS0 : va_S A s.heap H locs) {r : Option Nat} {a K : Nat} (hr : r = some a) (hk : gk σ a = K) (h1 : 1 ≤ K ∧ K ≤ 6) (j : Nat) (hj : j < (gCl K).2.2) (hfin : ((gCl K).2.1 j).2.2.2 = false ∨ (((gCl K).2.1 j).2.2.2 = true ∧ meth.name = "<init>" ∧ ((gCl K).2.1 j).1 = own)) (hwr : gwr σ a) {idx : Nat} {v : Value} (hnar : narrow (gTy K j) v = v) (hfit : fits (gTy K j) v = true) (hq : Cond.fieldLink own idx ((gCl K).2.1 j).1 ((gCl K).2.1 j).2.1 ((gCl K).2.1 j).2.2.1 ∈ lw_all) (hdg : decode cc pc = .ok (.putfield idx, 3)) {σ' : GS}
    (e1 : gk σ' = gk σ) (e2 : gn σ' = gn σ) (e3 : gx σ' = gx σ) (e4 : gc σ' = gc σ) (e5 : gs σ' = gs σ) (e6 : gb σ' = gb σ) (e7 : gz σ' = gz σ)
    (hv : ∀ b i, ¬ (b = a ∧ i = j) → gi σ' b i = gi σ b i ∧ gl σ' b i = gl σ b i ∧ gr σ' b i = gr σ b i) (hn : gval (gtOf (gTy K j)) σ' a j = v)
    (kk : ∀ (H1 : Heap) (locs1 : List Loc), gI D A σ' H1 → va_S A s.heap H1 locs1 → W p l e R s m args below meth c H1 locs1 cells slots Q (F0 m (pc + 3) ls rest)) : W p l e R s m args below meth c H locs cells slots Q (F0 m pc ls (v :: va_rf r :: rest)) := by
  obtain ⟨hx, hb, -, hown, hts, hK, -⟩ := S
  subst hr
  have hap := g_apart hts hK h1
  obtain ⟨cell, q1, q2, q3, q4, q5, q6, q7⟩ := gobj hI hk h1
  have hne : gk σ a ≠ 0 := by omega
  have hA : A a := hI.2.1 a hne hwr
  have hvm := (q4 hwr).1
  obtain ⟨hSl, hfc, kC, hkC, hkind⟩ := hK.1 K h1.1 h1.2
  obtain ⟨cf, kf, fi, f, hi, hsl⟩ := hSl j hj
  have hlay := hts _ (gin K h1.1 h1.2 _ (u_in_lay hj))
  have hst := (u_facts hfc hkC (u_lays hts (gin _ h1.1 h1.2) hj) hi).1
  have hcls : cell.cls = D.1 K := by rw [q6, hk]
  have hslot : f.slot < cell.slots.size := by
    rw [hsl, ← hk]
    exact k2_hasslot (q7 j (by rw [hk]; exact hj))
  rcases hfin with hfin | ⟨hfin, hin, hdecl⟩
  · unfold u_lay at hlay
    rw [if_neg (by rw [hfin]; decide)] at hlay
    have h6 := u_store (v := v) hfc hkC hkind hlay hi (gty_ok K h1.1 h1.2 j hj) hnar hfit
    refine W.putK hx hb (f := f) ⟨hown, hts _ hq, ⟨_, _, _, hi⟩, hst⟩ (by rw [hcls]; exact h6) q1 hvm hslot rfl rfl hdg fun H' x1 x2 x3 => ?_
    rw [hsl] at x1 ⊢
    exact kk H' _ (hI.field hk h1 hap hj e1 e2 e3 e4 e5 e6 e7 hv hn q1 x1 x2 x3) (hS0.put x2 x3 hA)
  · unfold u_lay at hlay
    rw [if_pos hfin] at hlay
    have hcf : m.cls = cf := by
      obtain ⟨_, _, c', _, _, _, -, -, hf', -, -, -, hown2, -⟩ := Cond.laysFinal_spec hlay
      have x1 : c' = cf := by have := hi.symm.trans hf'; simp at this; exact this.1.symm
      rw [hdecl] at hown2
      rw [← x1]; exact Option.some.inj (hown.symm.trans hown2)
    have h6 := u_fits hfc hkC hkind (Or.inr hlay) hi (gty_ok K h1.1 h1.2 j hj) hnar hfit
    refine W.putFinK hx hb hown (hts _ hq) hi hst hcf hin (by rw [hcls]; exact h6) q1 hvm hslot rfl rfl hdg fun H' x1 x2 x3 => ?_
    rw [hsl] at x1 ⊢
    exact kk H' _ (hI.field hk h1 hap hj e1 e2 e3 e4 e5 e6 e7 hv hn q1 x1 x2 x3) (hS0.put x2 x3 hA)
theorem g_puti (S : gS own R p c cc nL m s args D A) (hI : gI D A σ H) (hS0 : va_S A s.heap H locs) {r : Option Nat} {a K : Nat} (hr : r = some a) (hk : gk σ a = K) (h1 : 1 ≤ K ∧ K ≤ 6) (j : Nat) (hj : j < (gCl K).2.2) (hfin : ((gCl K).2.1 j).2.2.2 = false ∨ (((gCl K).2.1 j).2.2.2 = true ∧ meth.name = "<init>" ∧ ((gCl K).2.1 j).1 = own)) (hwr : gwr σ a) {idx : Nat} {v : Int32} (ht : gtOf (gTy K j) = 0) (hnar : narrow (gTy K j) (.int v) = .int v) (hfit : fits (gTy K j) (.int v) = true) (hq : Cond.fieldLink own idx ((gCl K).2.1 j).1 ((gCl K).2.1 j).2.1 ((gCl K).2.1 j).2.2.1 ∈ lw_all) (hdg : decode cc pc = .ok (.putfield idx, 3))
    (kk : ∀ (H1 : Heap) (locs1 : List Loc), gI D A (gpi σ a j v) H1 → va_S A s.heap H1 locs1 → W p l e R s m args below meth c H1 locs1 cells slots Q (F0 m (pc + 3) ls rest)) : W p l e R s m args below meth c H locs cells slots Q (F0 m pc ls (.int v :: va_rf r :: rest)) := by
  refine g_putG S hI hS0 hr hk h1 j hj hfin hwr hnar hfit hq hdg (σ' := gpi σ a j v) rfl rfl rfl rfl rfl rfl rfl (fun b i h => ⟨?_, rfl, rfl⟩) ?_ kk
  · show up2 (gi σ) a j v b i = _
    unfold up2
    rw [if_neg h]
  · rw [ht]
    show Value.int (up2 (gi σ) a j v a j) = _
    unfold up2
    rw [if_pos ⟨rfl, rfl⟩]
theorem g_putr (S : gS own R p c cc nL m s args D A) (hI : gI D A σ H) (hS0 : va_S A s.heap H locs) {r : Option Nat} {a K : Nat} (hr : r = some a) (hk : gk σ a = K) (h1 : 1 ≤ K ∧ K ≤ 6) (j : Nat) (hj : j < (gCl K).2.2) (hfin : ((gCl K).2.1 j).2.2.2 = false ∨ (((gCl K).2.1 j).2.2.2 = true ∧ meth.name = "<init>" ∧ ((gCl K).2.1 j).1 = own)) (hwr : gwr σ a) {idx : Nat} {v : Option Nat} (ht : gtOf (gTy K j) = 2) (hq : Cond.fieldLink own idx ((gCl K).2.1 j).1 ((gCl K).2.1 j).2.1 ((gCl K).2.1 j).2.2.1 ∈ lw_all) (hdg : decode cc pc = .ok (.putfield idx, 3))
    (kk : ∀ (H1 : Heap) (locs1 : List Loc), gI D A (gpr σ a j v) H1 → va_S A s.heap H1 locs1 → W p l e R s m args below meth c H1 locs1 cells slots Q (F0 m (pc + 3) ls rest)) : W p l e R s m args below meth c H locs cells slots Q (F0 m pc ls (va_rf v :: va_rf r :: rest)) := by
  have hnar : narrow (gTy K j) (va_rf v) = va_rf v := by
    cases v <;> (generalize gTy K j = ty at ht ⊢; cases ty <;> first | rfl | (exact absurd ht (by decide)))
  have hfit : fits (gTy K j) (va_rf v) = true := by
    cases v <;> (generalize gTy K j = ty at ht ⊢; cases ty <;> first | rfl | (exact absurd ht (by decide)))
  refine g_putG S hI hS0 hr hk h1 j hj hfin hwr hnar hfit hq hdg (σ' := gpr σ a j v) rfl rfl rfl rfl rfl rfl rfl (fun b i h => ⟨rfl, rfl, ?_⟩) ?_ kk
  · show up2 (gr σ) a j v b i = _
    unfold up2
    rw [if_neg h]
  · rw [ht]
    show va_rf (up2 (gr σ) a j v a j) = _
    unfold up2
    rw [if_pos ⟨rfl, rfl⟩]
theorem gin_of {i : Int32} {n m : Nat} (h : vp_in i n) (hm : n ≤ m) : ¬ (i < 0 ∨ m ≤ i.toNatClampNeg) := fun q => h (q.imp id (Nat.le_trans hm))
theorem g_iald (S : gS own R p c cc nL m s args D A) (hI : gI D A σ H) {r : Option Nat} {a : Nat} (hr : r = some a) (hk : gk σ a = 100) {i : Int32} (hin : vp_in i (gn σ a)) (hdg : decode cc pc = .ok (.iaload, 1))
    (kk : W p l e R s m args below meth c H locs cells slots Q (F0 m (pc + 1) ls (.int (gi σ a i.toNatClampNeg) :: rest))) : W p l e R s m args below meth c H locs cells slots Q (F0 m pc ls (.int i :: va_rf r :: rest)) := by
  obtain ⟨hx, hb, -, hown, hts, hK, -⟩ := S
  subst hr
  obtain ⟨cell, q1, q2, q3, q4, q5⟩ := garr hI hk (Or.inl rfl)
  have har := gar_of hK hk q3 q5
  obtain ⟨-, -, -, q6, -, q7, -⟩ := q5
  have hlt : i.toNatClampNeg < gn σ a := Nat.not_le.mp fun q => hin (Or.inr q)
  have := q7 _ hlt
  rw [hk] at this
  exact W.iald (v := .int (gi σ a i.toNatClampNeg)) hx hb q1 har q2 (gin_of hin q6.1) this rfl rfl hdg kk
theorem g_bald (S : gS own R p c cc nL m s args D A) (hI : gI D A σ H) {r : Option Nat} {a : Nat} (hr : r = some a) (hk : gk σ a = 101) {i : Int32} (hin : vp_in i (gn σ a)) (hdg : decode cc pc = .ok (.baload, 1))
    (kk : W p l e R s m args below meth c H locs cells slots Q (F0 m (pc + 1) ls (.int (gi σ a i.toNatClampNeg) :: rest))) : W p l e R s m args below meth c H locs cells slots Q (F0 m pc ls (.int i :: va_rf r :: rest)) := by
  obtain ⟨hx, hb, -, hown, hts, hK, -⟩ := S
  subst hr
  obtain ⟨cell, q1, q2, q3, q4, q5⟩ := garr hI hk (Or.inr (Or.inl rfl))
  have har := gar_of hK hk q3 q5
  obtain ⟨-, -, -, q6, -, q7, -⟩ := q5
  have hlt : i.toNatClampNeg < gn σ a := Nat.not_le.mp fun q => hin (Or.inr q)
  have := q7 _ hlt
  rw [hk] at this
  exact W.bald (v := .int (gi σ a i.toNatClampNeg)) hx hb q1 har q2 (gin_of hin q6.1) this rfl rfl hdg kk
theorem g_lald (S : gS own R p c cc nL m s args D A) (hI : gI D A σ H) {r : Option Nat} {a : Nat} (hr : r = some a) (hk : gk σ a = 104) {i : Int32} (hin : vp_in i (gn σ a)) (hdg : decode cc pc = .ok (.laload, 1))
    (kk : W p l e R s m args below meth c H locs cells slots Q (F0 m (pc + 1) ls (.long (gl σ a i.toNatClampNeg) :: rest))) : W p l e R s m args below meth c H locs cells slots Q (F0 m pc ls (.int i :: va_rf r :: rest)) := by
  obtain ⟨hx, hb, -, hown, hts, hK, -⟩ := S
  subst hr
  obtain ⟨cell, q1, q2, q3, q4, q5⟩ := garr hI hk (Or.inr (Or.inr (Or.inl rfl)))
  have har := gar_of hK hk q3 q5
  obtain ⟨-, -, -, q6, -, q7, -⟩ := q5
  have hlt : i.toNatClampNeg < gn σ a := Nat.not_le.mp fun q => hin (Or.inr q)
  have := q7 _ hlt
  rw [hk] at this
  exact W.lald (v := .long (gl σ a i.toNatClampNeg)) hx hb q1 har q2 (gin_of hin q6.1) this rfl rfl hdg kk
theorem gKA_r {K : Nat} (h : 105 ≤ K ∧ K ≤ 108) : gKA K := by unfold gKA; omega
theorem gAty_r {K : Nat} (h : 105 ≤ K ∧ K ≤ 108) : (gAty K).isReference = true ∧ gtOf (gAty K) = 2 := by
  rcases (show K = 105 ∨ K = 106 ∨ K = 107 ∨ K = 108 by omega) with rfl | rfl | rfl | rfl <;> exact ⟨rfl, rfl⟩
theorem g_aald (S : gS own R p c cc nL m s args D A) (hI : gI D A σ H) {r : Option Nat} {a K : Nat} (hr : r = some a) (hk : gk σ a = K) (h1 : 105 ≤ K ∧ K ≤ 108) {i : Int32} (hin : vp_in i (gn σ a)) (hdg : decode cc pc = .ok (.aaload, 1))
    (kk : W p l e R s m args below meth c H locs cells slots Q (F0 m (pc + 1) ls (va_rf (gr σ a i.toNatClampNeg) :: rest))) : W p l e R s m args below meth c H locs cells slots Q (F0 m pc ls (.int i :: va_rf r :: rest)) := by
  obtain ⟨hx, hb, -, hown, hts, hK, -⟩ := S
  subst hr
  obtain ⟨cell, q1, q2, q3, q4, q5⟩ := garr hI hk (gKA_r h1)
  have har := gar_of hK hk q3 q5
  obtain ⟨-, -, -, q6, -, q7, -⟩ := q5
  have hlt : i.toNatClampNeg < gn σ a := Nat.not_le.mp fun q => hin (Or.inr q)
  have := q7 _ hlt
  rw [hk, (gAty_r h1).2] at this
  exact W.aald (v := va_rf (gr σ a i.toNatClampNeg)) hx hb q1 har (gAty_r h1).1 q2 (gin_of hin q6.1) this rfl rfl hdg kk
theorem g_alen (S : gS own R p c cc nL m s args D A) (hI : gI D A σ H) {r : Option Nat} {a K : Nat} (hr : r = some a) (hk : gk σ a = K) (h1 : gKA K) (hdg : decode cc pc = .ok (.arraylength, 1))
    (kk : W p l e R s m args below meth c H locs cells slots Q (F0 m (pc + 1) ls (.int (nI (gn σ a)) :: rest))) : W p l e R s m args below meth c H locs cells slots Q (F0 m pc ls (va_rf r :: rest)) := by
  obtain ⟨hx, hb, -, hown, hts, hK, -⟩ := S
  subst hr
  obtain ⟨cell, q1, q2, q3, q4, q5⟩ := garr hI hk h1
  have har := gar_of hK hk q3 q5
  exact W.alen hx hb q1 har q5.2.2.2.1.2.1 rfl rfl hdg kk
/-- the relation behind a store at place i of the array a -/
theorem gI.elem {σ' : GS} {H1 : Heap} {a K i : Nat} {cell : Cell} {v : Value} (hI : gI D A σ H) (hk : gk σ a = K) (h1 : gKA K) (hi : i < gn σ a)
    (e1 : gk σ' = gk σ) (e2 : gn σ' = gn σ) (e3 : gx σ' = gx σ) (e4 : gc σ' = gc σ) (e5 : gs σ' = gs σ) (e6 : gb σ' = gb σ) (e7 : gz σ' = gz σ)
    (hv : ∀ b k, ¬ (b = a ∧ k = i) → gi σ' b k = gi σ b k ∧ gl σ' b k = gl σ b k ∧ gr σ' b k = gr σ b k) (hn : gval (gtOf (gAty K)) σ' a i = v) (hby : K = 101 → vp_nar .byte (gi σ' a i) = gi σ' a i)
    (h0 : H[a]? = some cell) (h2 : H1[a]? = some (cell.setSlot i v)) (z : H1.size = H.size) (oq : ∀ q, q ≠ a → H1[q]? = H[q]?) : gI D A σ' H1 := by
  obtain ⟨cell', q1, q2, q3, q4, y1, y2, y3, y4, y5, y6, y7⟩ := garr hI hk h1
  cases h0.symm.trans q1
  subst hk
  have hw : gwr σ' a ↔ gwr σ a := by unfold gwr; rw [e1, e6]
  refine hI.upd e1 e2 e3 e4 e5 e6 e7 (fun b hb k => hv b k (fun h => hb h.1)) h0 h2 (k2_slotsz _ _ _) z oq ⟨_, h2, q2, q3, fun h => q4 (hw.mp h), Or.inr ⟨by rw [e1]; exact y1, fun h => by rw [e1]; exact y2 (hw.mp h), fun h => y3 (by rw [← e1]; exact h), ?_, by rw [e2]; exact y5, fun k hk => ?_, fun h k hk => ?_⟩⟩
  · rw [k2_slotsz, e2]
    exact ⟨y4.1, y4.2.1, fun h => y4.2.2 (hw.mp h)⟩
  · rw [e2] at hk
    rw [e1]
    by_cases hki : k = i
    · subst hki
      rw [hn]
      have hk9 : k < cell.slots.size := Nat.lt_of_lt_of_le hk y4.1
      simp [Cell.setSlot, Array.getElem?_setIfInBounds, hk9]
    · have hg : gval (gtOf (gAty (gk σ a))) σ' a k = gval (gtOf (gAty (gk σ a))) σ a k := by
        obtain ⟨x1, x2, x3⟩ := hv a k (fun h => hki h.2)
        unfold gval
        split
        · rw [x1]
        · rw [x2]
        · rw [x3]
      rw [hg, ← y6 k hk]
      simp [Cell.setSlot, Array.getElem?_setIfInBounds, Ne.symm hki]
  · rw [e2] at hk
    rw [e1] at h
    by_cases hki : k = i
    · subst hki
      exact hby h
    · rw [(hv a k (fun q => hki q.2)).1]
      exact y7 h k hk
theorem up2_ne {α : Type} {f : Nat → Nat → α} {a k : Nat} {v : α} {b i : Nat} (h : ¬ (b = a ∧ i = k)) : up2 f a k v b i = f b i := if_neg h
theorem up2_eq {α : Type} {f : Nat → Nat → α} {a k : Nat} {v : α} : up2 f a k v a k = v := if_pos ⟨rfl, rfl⟩
theorem g_iast (S : gS own R p c cc nL m s args D A) (hI : gI D A σ H) (hS0 : va_S A s.heap H locs) {r : Option Nat} {a : Nat} (hr : r = some a) (hk : gk σ a = 100) {i x : Int32} (hin : vp_in i (gn σ a)) (hdg : decode cc pc = .ok (.iastore, 1))
    (kk : ∀ (H1 : Heap) (locs1 : List Loc), gI D A (gpi σ a i.toNatClampNeg x) H1 → va_S A s.heap H1 locs1 → W p l e R s m args below meth c H1 locs1 cells slots Q (F0 m (pc + 1) ls rest)) : W p l e R s m args below meth c H locs cells slots Q (F0 m pc ls (.int x :: .int i :: va_rf r :: rest)) := by
  obtain ⟨hx, hb, -, hown, hts, hK, -⟩ := S
  subst hr
  obtain ⟨cell, q1, q2, q3, q4, q5⟩ := garr hI hk (Or.inl rfl)
  have har := gar_of hK hk q3 q5
  have hlt : i.toNatClampNeg < gn σ a := Nat.not_le.mp fun q => hin (Or.inr q)
  have hA : A a := hI.2.1 a (by omega) (Or.inl ⟨by omega, by omega⟩)
  refine W.iast hx hb q1 har q2 (gin_of hin q5.2.2.2.1.1) rfl rfl hdg fun H1 e z oq => ?_
  refine kk H1 _ (hI.elem (σ' := gpi σ a i.toNatClampNeg x) hk (Or.inl rfl) hlt rfl rfl rfl rfl rfl rfl rfl (fun b k h => ⟨up2_ne h, rfl, rfl⟩) ?_ (fun h => absurd h (by decide)) q1 e z oq) (hS0.put z oq hA)
  show Value.int (up2 (gi σ) a _ x a _) = _
  rw [up2_eq]
theorem g_bast (S : gS own R p c cc nL m s args D A) (hI : gI D A σ H) (hS0 : va_S A s.heap H locs) {r : Option Nat} {a : Nat} (hr : r = some a) (hk : gk σ a = 101) (hwr : gb σ ≤ a) {i x : Int32} (hin : vp_in i (gn σ a)) (hdg : decode cc pc = .ok (.bastore, 1))
    (kk : ∀ (H1 : Heap) (locs1 : List Loc), gI D A (gpi σ a i.toNatClampNeg x.toInt8.toInt32) H1 → va_S A s.heap H1 locs1 → W p l e R s m args below meth c H1 locs1 cells slots Q (F0 m (pc + 1) ls rest)) : W p l e R s m args below meth c H locs cells slots Q (F0 m pc ls (.int x :: .int i :: va_rf r :: rest)) := by
  obtain ⟨hx, hb, -, hown, hts, hK, -⟩ := S
  subst hr
  obtain ⟨cell, q1, q2, q3, q4, q5⟩ := garr hI hk (Or.inr (Or.inl rfl))
  have har := gar_of hK hk q3 q5
  have hlt : i.toNatClampNeg < gn σ a := Nat.not_le.mp fun q => hin (Or.inr q)
  have hA : A a := hI.2.1 a (by omega) (Or.inr hwr)
  refine W.bast hx hb q1 har q2 (gin_of hin q5.2.2.2.1.1) rfl rfl hdg fun H1 e z oq => ?_
  have e : H1[a]? = some (cell.setSlot i.toNatClampNeg (.int (vp_nar .byte x))) := e
  rw [vp_nar_byte] at e
  refine kk H1 _ (hI.elem (σ' := gpi σ a i.toNatClampNeg x.toInt8.toInt32) hk (Or.inr (Or.inl rfl)) hlt rfl rfl rfl rfl rfl rfl rfl (fun b k h => ⟨up2_ne h, rfl, rfl⟩) ?_ (fun _ => ?_) q1 e z oq) (hS0.put z oq hA)
  · show Value.int (up2 (gi σ) a _ _ a _) = _
    rw [up2_eq]
  · show vp_nar .byte (up2 (gi σ) a _ _ a _) = up2 (gi σ) a _ _ a _
    rw [up2_eq, vp_nar_byte]
    simp
theorem g_last (S : gS own R p c cc nL m s args D A) (hI : gI D A σ H) (hS0 : va_S A s.heap H locs) {r : Option Nat} {a : Nat} (hr : r = some a) (hk : gk σ a = 104) {i : Int32} {x : Int64} (hin : vp_in i (gn σ a)) (hdg : decode cc pc = .ok (.lastore, 1))
    (kk : ∀ (H1 : Heap) (locs1 : List Loc), gI D A (gpl σ a i.toNatClampNeg x) H1 → va_S A s.heap H1 locs1 → W p l e R s m args below meth c H1 locs1 cells slots Q (F0 m (pc + 1) ls rest)) : W p l e R s m args below meth c H locs cells slots Q (F0 m pc ls (.long x :: .int i :: va_rf r :: rest)) := by
  obtain ⟨hx, hb, -, hown, hts, hK, -⟩ := S
  subst hr
  obtain ⟨cell, q1, q2, q3, q4, q5⟩ := garr hI hk (Or.inr (Or.inr (Or.inl rfl)))
  have har := gar_of hK hk q3 q5
  have hlt : i.toNatClampNeg < gn σ a := Nat.not_le.mp fun q => hin (Or.inr q)
  have hA : A a := hI.2.1 a (by omega) (Or.inl ⟨by omega, by omega⟩)
  refine W.last hx hb q1 har q2 (gin_of hin q5.2.2.2.1.1) rfl rfl hdg fun H1 e z oq => ?_
  refine kk H1 _ (hI.elem (σ' := gpl σ a i.toNatClampNeg x) hk (Or.inr (Or.inr (Or.inl rfl))) hlt rfl rfl rfl rfl rfl rfl rfl (fun b k h => ⟨rfl, up2_ne h, rfl⟩) ?_ (fun h => absurd h (by decide)) q1 e z oq) (hS0.put z oq hA)
  show Value.long (up2 (gl σ) a _ x a _) = _
  rw [up2_eq]
/-- the kind of what an array of references holds -/
def gEl (K : Nat) : Nat := match K with
  | 105 => 6
  | 106 => 3
  | 107 => 4
  | _ => 100
theorem g_asg (vm : Vm) (c : ClassId) : vm.assignable c c = true := by
  have h : ∀ f, vm.assignableAux (f + 1) c c = true := by
    intro f
    unfold Vm.assignableAux
    simp
  exact h 255
theorem g_aast (S : gS own R p c cc nL m s args D A) (hI : gI D A σ H) (hS0 : va_S A s.heap H locs) {r v : Option Nat} {a K : Nat} (hr : r = some a) (hk : gk σ a = K) (h1 : 105 ≤ K ∧ K ≤ 108) (hv : ∃ b, v = some b ∧ gk σ b = gEl K) {i : Int32} (hin : vp_in i (gn σ a)) (hdg : decode cc pc = .ok (.aastore, 1))
    (kk : ∀ (H1 : Heap) (locs1 : List Loc), gI D A (gpr σ a i.toNatClampNeg v) H1 → va_S A s.heap H1 locs1 → W p l e R s m args below meth c H1 locs1 cells slots Q (F0 m (pc + 1) ls rest)) : W p l e R s m args below meth c H locs cells slots Q (F0 m pc ls (va_rf v :: .int i :: va_rf r :: rest)) := by
  obtain ⟨hx, hb, -, hown, hts, hK, -⟩ := S
  subst hr
  obtain ⟨b, rfl, hkb⟩ := hv
  obtain ⟨cell, q1, q2, q3, q4, q5⟩ := garr hI hk (gKA_r h1)
  have hlt : i.toNatClampNeg < gn σ a := Nat.not_le.mp fun q => hin (Or.inr q)
  have hw : gwr σ a := Or.inl ⟨by omega, by omega⟩
  have hA : A a := hI.2.1 a (by omega) hw
  obtain ⟨kA, comp, r1, r2, -, r3⟩ := hK.2.1 K (gKA_r h1)
  obtain ⟨r4, kc, r5⟩ := r3 h1.1
  have hcls : cell.cls = D.2.2.1 K := by rw [q5.2.1 hw, hk]
  have hcell : ∃ cv : Cell, H[b]? = some cv ∧ (∀ q, cv.vm ≠ .statics q) ∧ (∃ kv, s.vm.classes[cv.cls]? = some kv) ∧ s.vm.assignable cv.cls comp = true := by
    rcases (show K = 105 ∨ K = 106 ∨ K = 107 ∨ K = 108 by omega) with rfl | rfl | rfl | rfl
    · obtain ⟨cv, p1, -, p3, -, -, p6, -⟩ := gobj hI hkb (by decide)
      have hKn := (hK.1 6 (by decide) (by decide)).2
      obtain ⟨kC, hkC, -⟩ := hKn.2
      have e9 : cv.cls = comp := by rw [p6, hkb]; exact Option.some.inj (hKn.1.symm.trans r4)
      exact ⟨cv, p1, p3, ⟨kc, by rw [e9]; exact r5⟩, by rw [p6, hkb]; rw [← show D.1 6 = comp from Option.some.inj (hKn.1.symm.trans r4)]; exact va_assign hKn⟩
    · obtain ⟨cv, p1, -, p3, -, -, p6, -⟩ := gobj hI hkb (by decide)
      have hKn := (hK.1 3 (by decide) (by decide)).2
      obtain ⟨kC, hkC, -⟩ := hKn.2
      have e9 : cv.cls = comp := by rw [p6, hkb]; exact Option.some.inj (hKn.1.symm.trans r4)
      exact ⟨cv, p1, p3, ⟨kc, by rw [e9]; exact r5⟩, by rw [p6, hkb]; rw [← show D.1 3 = comp from Option.some.inj (hKn.1.symm.trans r4)]; exact va_assign hKn⟩
    · obtain ⟨cv, p1, -, p3, -, -, p6, -⟩ := gobj hI hkb (by decide)
      have hKn := (hK.1 4 (by decide) (by decide)).2
      obtain ⟨kC, hkC, -⟩ := hKn.2
      have e9 : cv.cls = comp := by rw [p6, hkb]; exact Option.some.inj (hKn.1.symm.trans r4)
      exact ⟨cv, p1, p3, ⟨kc, by rw [e9]; exact r5⟩, by rw [p6, hkb]; rw [← show D.1 4 = comp from Option.some.inj (hKn.1.symm.trans r4)]; exact va_assign hKn⟩
    · have hkb : gk σ b = 100 := hkb
      obtain ⟨cv, p1, -, p3, -, p5⟩ := garr hI hkb (Or.inl rfl)
      obtain ⟨kI, cI, w1, w2, w3, -⟩ := hK.2.1 100 (Or.inl rfl)
      have e8 : cv.cls = D.2.2.1 100 := by rw [p5.2.1 (Or.inl ⟨by omega, by omega⟩), hkb]
      have e9 : D.2.2.1 100 = comp := Option.some.inj (w3.symm.trans r4)
      refine ⟨cv, p1, p3, ⟨kc, by rw [e8, e9]; exact r5⟩, ?_⟩
      rw [e8, e9]
      exact g_asg _ _
  obtain ⟨cv, p1, p3, ⟨kv, p4⟩, p5⟩ := hcell
  refine W.aast hx hb q1 q3 q2 (by rw [hcls]; exact r1) r2 (gAty_r h1).1 r5 ⟨fun q => hin (Or.inl q), Nat.lt_of_lt_of_le hlt q5.2.2.2.1.1⟩ p1 p3 p4 p5 rfl rfl hdg fun H1 e z oq => ?_
  refine kk H1 _ (hI.elem (σ' := gpr σ a i.toNatClampNeg (some b)) hk (gKA_r h1) hlt rfl rfl rfl rfl rfl rfl rfl (fun b k h => ⟨rfl, rfl, up2_ne h⟩) ?_ (fun h => absurd h (by omega)) q1 e z oq) (hS0.put z oq hA)
  rw [(gAty_r h1).2]
  show va_rf (up2 (gr σ) a _ (some b) a _) = _
  rw [up2_eq]
  rfl
/-- what is booked: what is there -/
theorem g_nar (S : gS own R p c cc nL m s args D A) (hI : gI D A σ H) (hS0 : va_S A s.heap H locs) {g : JFrame} (kk : ∀ cells slots : Nat, cells + gc σ = R.cells → slots + gs σ = R.slots → W p l e R s m args below meth c H locs cells slots Q g) (hz : hsz s.heap ≤ hsz H) : W p l e R s m args below meth c H locs cells slots Q g := by
  obtain ⟨-, -, -, -, -, -, -, r1, r2⟩ := S
  obtain ⟨-, -, i3, i4, i5, -⟩ := hI
  have := hS0.1
  exact W.nar (kk _ _ (by omega) (by omega))
/-- the heap only grows: what W knows -/
theorem W.grown {g : JFrame} (kk : hsz s.heap ≤ hsz H → W p l e R s m args below meth c H locs cells slots Q g) : W p l e R s m args below meth c H locs cells slots Q g := by
  intro T hT X
  refine kk ?_ T hT X
  obtain ⟨h1, h2, h3, h4, h5, h6⟩ := X.same
  have hs := hsz_split (H0 := s.heap) (H := (T.setVm s.vm).heap) h2 (fun a c hc => by
    obtain ⟨c', q1, q2, q3, -⟩ := h6 a c hc
    exact ⟨c', q1, q3⟩)
  have hh : (T.setVm s.vm).heap = H := hT
  rw [hh] at hs
  omega
theorem va_S.grow {H0 H1 : Heap} (h : va_S A H0 H locs) (z : H.size ≤ H1.size) (o : ∀ q : Nat, q < H.size → H1[q]? = H[q]?) : va_S A H0 H1 locs :=
  ⟨Nat.le_trans h.1 z, fun q h1 h2 => (o q (Nat.lt_of_lt_of_le h1 h.1)).trans (h.2.1 q h1 h2), h.2.2⟩
theorem gnew_ne {k n w b : Nat} (h : b ≠ gx σ) : gk (gnew σ k n w) b = gk σ b ∧ gn (gnew σ k n w) b = gn σ b ∧ ∀ j, gi (gnew σ k n w) b j = gi σ b j ∧ gl (gnew σ k n w) b j = gl σ b j ∧ gr (gnew σ k n w) b j = gr σ b j :=
  ⟨if_neg h, if_neg h, fun _ => ⟨if_neg h, if_neg h, if_neg h⟩⟩
theorem gnew_eq {k n w : Nat} : gk (gnew σ k n w) (gx σ) = k ∧ gn (gnew σ k n w) (gx σ) = n ∧ ∀ j, gi (gnew σ k n w) (gx σ) j = 0 ∧ gl (gnew σ k n w) (gx σ) j = 0 ∧ gr (gnew σ k n w) (gx σ) j = none :=
  ⟨if_pos rfl, if_pos rfl, fun _ => ⟨if_pos rfl, if_pos rfl, if_pos rfl⟩⟩
/-- types whose default is what a new cell holds -/
theorem g_default (ty : FieldType) (h : (match ty with | .float => false | .double => false | _ => true) = true) {k n w j : Nat} : gval (gtOf ty) (gnew σ k n w) (gx σ) j = defaultValue ty := by
  obtain ⟨-, -, q⟩ := gnew_eq (σ := σ) (k := k) (n := n) (w := w)
  obtain ⟨q1, q2, q3⟩ := q j
  cases ty <;> first | (exact absurd h (by decide)) | (show Value.int _ = _; rw [q1]; rfl) | (show Value.long _ = _; rw [q2]; rfl) | (show va_rf _ = _; rw [q3]; rfl)
theorem g_new (S : gS own R p c cc nL m s args D A) (hI : gI D A σ H) (hS0 : va_S A s.heap H locs) (K : Nat) (h1 : 1 ≤ K ∧ K ≤ 6) {idx n : Nat} (hroom : 1 ≤ gc σ ∧ n ≤ gs σ) (hql : Cond.classLink own idx (gCl K).1 ∈ lw_all) (hqi : Cond.instantiable (gCl K).1 n ∈ lw_all) (hq0 : Cond.initialized (gCl K).1 ∈ lw_all) (hty : ∀ j, j < (gCl K).2.2 → (match gTy K j with | .float => false | .double => false | _ => true) = true) (hdg : decode cc pc = .ok (.new idx, 3))
    (kk : ∀ (H1 : Heap) (cells slots : Nat), gI D A (gnew σ K 0 n) H1 → va_S A s.heap H1 locs → W p l e R s m args below meth c H1 locs cells slots Q (F0 m (pc + 3) ls (.ref (gx σ) :: rest))) : W p l e R s m args below meth c H locs cells slots Q (F0 m pc ls rest) := by
  refine W.grown fun hz => g_nar S hI hS0 (fun cells slots ec es => ?_) hz
  obtain ⟨hx, hb, -, hown, hts, hK, -⟩ := S
  have hKn := hK.1 K h1.1 h1.2
  refine W.newcK hx hb hown (hts _ hql) (hts _ hqi) (hts _ hq0) rfl hdg (by omega) (by omega) hKn.2.1 hI.2.2.1 fun H1 kC hkC e1 z o => ?_
  have o : ∀ q, q < H.size → H1[q]? = H[q]? := fun q hq => o q (by rw [← hI.2.2.1]; exact hq)
  obtain ⟨cell, b1, b2, b3, b4⟩ := u_born (H := H1) (gTy K) hts (gin K h1.1 h1.2) hKn hkC e1 (gty_ok K h1.1 h1.2)
  have hce : cell = blank (D.1 K) kC := Option.some.inj (b1.symm.trans e1)
  have hsz : cell.slots.size = n := by
    rw [hce]
    obtain ⟨c', k', f1, f2, -, -, -, f3⟩ := Cond.instantiable_spec (hts _ hqi)
    cases hKn.2.1.symm.trans f1
    cases hkC.symm.trans f2
    simp [blank, f3]
  refine kk H1 _ _ (hI.push (w := n) hroom (fun b hb => gnew_ne hb) rfl rfl rfl rfl rfl (c1 := cell) (by rw [hI.2.2.1]; exact b1) hsz (by rw [z, hI.2.2.1]) o ⟨cell, b1, (by rw [b3]; exact fun h => (by cases h)), (fun q h => by rw [b3] at h; cases h), (fun _ => ⟨b3, by rw [hce]; rfl, by rw [hce]; rfl⟩), Or.inl ⟨by rw [gnew_eq.1]; exact h1, by rw [gnew_eq.1]; exact b2, fun j hj => ?_⟩⟩) (hS0.grow (by rw [z, hI.2.2.1]; omega) o)
  rw [gnew_eq.1] at hj ⊢
  rw [g_default _ (hty j hj)]
  exact b4 j hj
def gAt (K : Nat) : ArrayType := match K with
  | 100 => .int
  | 101 => .byte
  | _ => .long
theorem g_newa (S : gS own R p c cc nL m s args D A) (hI : gI D A σ H) (hS0 : va_S A s.heap H locs) (K : Nat) (h1 : K = 100 ∨ K = 101 ∨ K = 104) {n : Int32} (hn : 0 ≤ n ∧ n.toNatClampNeg ≤ 16777216) (hroom : 1 ≤ gc σ ∧ n.toNatClampNeg ≤ gs σ) (hdg : decode cc pc = .ok (.newarray (gAt K), 2))
    (kk : ∀ (H1 : Heap) (cells slots : Nat), gI D A (gnew σ K n.toNatClampNeg n.toNatClampNeg) H1 → va_S A s.heap H1 locs → W p l e R s m args below meth c H1 locs cells slots Q (F0 m (pc + 2) ls (.ref (gx σ) :: rest))) : W p l e R s m args below meth c H locs cells slots Q (F0 m pc ls (.int n :: rest)) := by
  refine W.grown fun hz => g_nar S hI hS0 (fun cells slots ec es => ?_) hz
  obtain ⟨hx, hb, -, hown, hts, hK, -⟩ := S
  have hKA : gKA K := by unfold gKA; omega
  have hT : newarray.typeOf (gAt K) = gAty K ∧ Cond.arrayClass (newarray.typeOf (gAt K)) ∈ lw_all ∧ componentBytes (newarray.typeOf (gAt K)) ≤ 8 ∧ (match gAty K with | .float => false | .double => false | _ => true) = true := by
    rcases h1 with rfl | rfl | rfl
    · exact ⟨rfl, q297, by decide, rfl⟩
    · exact ⟨rfl, q163, by decide, rfl⟩
    · exact ⟨rfl, q609, by decide, rfl⟩
  obtain ⟨t1, t2, t3, t4⟩ := hT
  have hn0 : ¬ n < 0 := fun h => by have := hn.1; simp only [Int32.lt_iff_toInt_lt, Int32.le_iff_toInt_le] at h this; omega
  refine va_newaK hx hb (hts _ t2) rfl hdg rfl hn0 rfl (by
    have := hn.2
    have h8 := Nat.mul_le_mul this t3
    omega) (by omega) (by omega) hI.2.2.1 fun H1 cA e1 z o _ hfc => ?_
  have o : ∀ q, q < H.size → H1[q]? = H[q]? := fun q hq => o q (by rw [← hI.2.2.1]; exact hq)
  rw [t1] at e1 hfc
  obtain ⟨kA, comp, r1, r2, r3, -⟩ := hK.2.1 K hKA
  have hcA : cA = D.2.2.1 K := Option.some.inj (hfc.symm.trans r3)
  refine kk H1 _ _ (hI.push (w := n.toNatClampNeg) hroom (fun b hb => gnew_ne hb) rfl rfl rfl rfl rfl (c1 := _) (by rw [hI.2.2.1]; exact e1) (arrV_size _ _ _) (by rw [z, hI.2.2.1]) o ⟨_, e1, fun h => (by cases h), fun q h => (by cases h), fun _ => ⟨rfl, rfl, rfl⟩, Or.inr ⟨by rw [gnew_eq.1]; exact hKA, fun _ => by rw [gnew_eq.1]; exact hcA, fun h => ?_, (by rw [gnew_eq.2.1, arrV_size]; exact ⟨Nat.le_refl _, rfl, fun _ => rfl⟩), by rw [gnew_eq.2.1]; omega, fun j hj => ?_, fun _ j _ => ?_⟩⟩) (hS0.grow (by rw [z, hI.2.2.1]; omega) o)
  · rw [gnew_eq.1] at h
    show D.2.2.2.1 cA
    rw [hcA, h]
    exact hK.2.2.2
  · rw [gnew_eq.2.1] at hj
    rw [gnew_eq.1, g_default _ t4, arrV_read _ _ hj]
  · rw [(gnew_eq.2.2 j).1]
    rfl
theorem g_anew (S : gS own R p c cc nL m s args D A) (hI : gI D A σ H) (hS0 : va_S A s.heap H locs) (K : Nat) (h1 : 105 ≤ K ∧ K ≤ 108) {idx : Nat} {n : Int32} (hn : 0 ≤ n ∧ n.toNatClampNeg ≤ 16777216) (hroom : 1 ≤ gc σ ∧ n.toNatClampNeg ≤ gs σ) (hql : Cond.classLink own idx (gCo K) ∈ lw_all) (hdg : decode cc pc = .ok (.anewarray idx, 3))
    (kk : ∀ (H1 : Heap) (cells slots : Nat), gI D A (gnew σ K n.toNatClampNeg n.toNatClampNeg) H1 → va_S A s.heap H1 locs → W p l e R s m args below meth c H1 locs cells slots Q (F0 m (pc + 3) ls (.ref (gx σ) :: rest))) : W p l e R s m args below meth c H locs cells slots Q (F0 m pc ls (.int n :: rest)) := by
  refine W.grown fun hz => g_nar S hI hS0 (fun cells slots ec es => ?_) hz
  obtain ⟨hx, hb, -, hown, hts, hK, hZ, -⟩ := S
  obtain ⟨-, -, -, -, -, -, -, ⟨o0, o1, o2⟩, o3, -⟩ := hZ
  have hn0 : ¬ n < 0 := fun h => by have := hn.1; simp only [Int32.lt_iff_toInt_lt, Int32.le_iff_toInt_le] at h this; omega
  have hby : n.toNatClampNeg * 4 ≤ 536870912 := by have := hn.2; omega
  have fin : ∀ (cA : ClassId) (kA : Class) (comp : ClassId), s.vm.findClass ("[" ++ (gAty K).toString) = some cA → W p l e R s m args below meth c (H.push { cls := cA, slots := Array.replicate n.toNatClampNeg .null, vm := .none }) locs (cells + 1) (slots + n.toNatClampNeg) Q (F0 m (pc + 3) ls (.ref H.size :: rest)) := by
    intro cA kA comp hfc
    obtain ⟨kA', comp', r1, r2, r3, -⟩ := hK.2.1 K (gKA_r h1)
    have hcA : cA = D.2.2.1 K := Option.some.inj (hfc.symm.trans r3)
    rw [arrV_new]
    generalize hH1 : H.push (arrV cA n.toNatClampNeg fun _ => Value.null) = H1
    have z : H1.size = H.size + 1 := by rw [← hH1, Array.size_push]
    have e1 : H1[H.size]? = some (arrV cA n.toNatClampNeg fun _ => Value.null) := by rw [← hH1, Array.getElem?_push_size]
    have o : ∀ q : Nat, q < H.size → H1[q]? = H[q]? := fun q hq => by rw [← hH1, Array.getElem?_push, if_neg (Nat.ne_of_lt hq)]
    rw [hI.2.2.1]
    have e2 : H1[gx σ]? = some (arrV cA n.toNatClampNeg fun _ => Value.null) := by rw [← hI.2.2.1]; exact e1
    refine kk H1 _ _ (hI.push (w := n.toNatClampNeg) hroom (fun b hb => gnew_ne hb) rfl rfl rfl rfl rfl (c1 := _) e1 (arrV_size _ _ _) z o ⟨_, e2, fun h => (by cases h), fun q h => (by cases h), fun _ => ⟨rfl, rfl, rfl⟩, Or.inr ⟨by rw [gnew_eq.1]; exact gKA_r h1, fun _ => by rw [gnew_eq.1]; exact hcA, fun h => ?_, (by rw [gnew_eq.2.1, arrV_size]; exact ⟨Nat.le_refl _, rfl, fun _ => rfl⟩), by rw [gnew_eq.2.1]; omega, fun j hj => ?_, fun _ j _ => ?_⟩⟩) (hS0.grow (by rw [z]; omega) o)
    · rw [gnew_eq.1] at h
      omega
    · rw [gnew_eq.2.1] at hj
      rw [gnew_eq.1, (gAty_r h1).2, arrV_read _ _ hj]
      show _ = some (va_rf (gr (gnew σ K n.toNatClampNeg n.toNatClampNeg) (gx σ) j))
      rw [(gnew_eq.2.2 j).2.2]
      rfl
    · rw [(gnew_eq.2.2 j).1]
      rfl
  rcases (show K = 105 ∨ K = 106 ∨ K = 107 ∨ K = 108 by omega) with rfl | rfl | rfl | rfl
  · exact W.anew hx hb hown (hts _ hql) o0.use rfl hdg rfl hn0 hby (by omega) (by omega) fun cA kA comp f1 f2 f3 f4 => fin cA kA comp f1
  · exact W.anew hx hb hown (hts _ hql) o1.use rfl hdg rfl hn0 hby (by omega) (by omega) fun cA kA comp f1 f2 f3 f4 => fin cA kA comp f1
  · exact W.anew hx hb hown (hts _ hql) o2.use rfl hdg rfl hn0 hby (by omega) (by omega) fun cA kA comp f1 f2 f3 f4 => fin cA kA comp f1
  · exact W.anewA (t := .int) hx hb hown (hts _ hql) o3 rfl hdg rfl hn0 hby (by omega) (by omega) fun cA kA comp f1 f2 f3 f4 => fin cA kA comp f1
/-! references in locals and on the stack -/
theorem g_aload_n (hx : p.tables.exec = Jvm.exec) (hb : c.code = cc) {k : Fin 4} {i : Nat} {r : Option Nat} (hdg : decode cc pc = .ok (.aload_n k, 1)) (hi : (k : Nat) = i) (hl : ls[i]? = some (.val (va_rf r))) (kk : W p l e R s m args below meth c H locs cells slots Q (F0 m (pc + 1) ls (va_rf r :: rest))) : W p l e R s m args below meth c H locs cells slots Q (F0 m pc ls rest) := by
  cases r with
  | none => exact lv_aload_nN hx hb hdg hi hl kk
  | some a => exact lv_aload_n hx hb hdg hi hl kk
theorem g_aload (hx : p.tables.exec = Jvm.exec) (hb : c.code = cc) {i : Nat} {r : Option Nat} (hdg : decode cc pc = .ok (.aload i, 2)) (hl : ls[i]? = some (.val (va_rf r))) (kk : W p l e R s m args below meth c H locs cells slots Q (F0 m (pc + 2) ls (va_rf r :: rest))) : W p l e R s m args below meth c H locs cells slots Q (F0 m pc ls rest) := by
  cases r with
  | none => exact lv_aloadN hx hb hdg hl kk
  | some a => exact lv_aload hx hb hdg hl kk
theorem g_astore_n (hx : p.tables.exec = Jvm.exec) (hb : c.code = cc) {k : Fin 4} {i nL : Nat} {r : Option Nat} {lv lv' : List (Nat × Value)} (hdg : decode cc pc = .ok (.astore_n k, 1)) (hi : (k : Nat) = i) (h : lv_has ls nL lv) (hn : i < nL) (hl : (i, va_rf r) :: lv.filter (fun q => !(q.1 == i) && !(q.1 + 1 == i && q.2.category == 2)) = lv')
    (kk : ∀ ls' : Array Slot, lv_has ls' nL lv' → W p l e R s m args below meth c H locs cells slots Q (F0 m (pc + 1) ls' rest)) : W p l e R s m args below meth c H locs cells slots Q (F0 m pc ls (va_rf r :: rest)) := by
  cases r with
  | none => exact lv_astore_nN hx hb hdg hi h hn hl kk
  | some a => exact lv_astore_n hx hb hdg hi h hn hl kk
theorem g_astore (hx : p.tables.exec = Jvm.exec) (hb : c.code = cc) {i nL : Nat} {r : Option Nat} {lv lv' : List (Nat × Value)} (hdg : decode cc pc = .ok (.astore i, 2)) (h : lv_has ls nL lv) (hn : i < nL) (hl : (i, va_rf r) :: lv.filter (fun q => !(q.1 == i) && !(q.1 + 1 == i && q.2.category == 2)) = lv')
    (kk : ∀ ls' : Array Slot, lv_has ls' nL lv' → W p l e R s m args below meth c H locs cells slots Q (F0 m (pc + 2) ls' rest)) : W p l e R s m args below meth c H locs cells slots Q (F0 m pc ls (va_rf r :: rest)) := by
  cases r with
  | none => exact lv_astoreN hx hb hdg h hn hl kk
  | some a => exact lv_astore hx hb hdg h hn hl kk
theorem g_ifnull (hx : p.tables.exec = Jvm.exec) (hb : c.code = cc) {r : Option Nat} {off : Int} {tgt : Nat} (hdg : decode cc pc = .ok (.ifnull off, 3)) (ht : (pc : Int) + off = (tgt : Int)) (kt : r = none → W p l e R s m args below meth c H locs cells slots Q (F0 m tgt ls rest)) (kf : ¬ r = none → W p l e R s m args below meth c H locs cells slots Q (F0 m (pc + 3) ls rest)) : W p l e R s m args below meth c H locs cells slots Q (F0 m pc ls (va_rf r :: rest)) := by
  cases r with
  | none => exact lv_ifnullN hx hb hdg ht (kt rfl)
  | some a => exact lv_ifnull hx hb hdg (kf (fun h => by cases h))
theorem g_ifnonnull (hx : p.tables.exec = Jvm.exec) (hb : c.code = cc) {r : Option Nat} {off : Int} {tgt : Nat} (hdg : decode cc pc = .ok (.ifnonnull off, 3)) (ht : (pc : Int) + off = (tgt : Int)) (kt : ¬ r = none → W p l e R s m args below meth c H locs cells slots Q (F0 m tgt ls rest)) (kf : r = none → W p l e R s m args below meth c H locs cells slots Q (F0 m (pc + 3) ls rest)) : W p l e R s m args below meth c H locs cells slots Q (F0 m pc ls (va_rf r :: rest)) := by
  cases r with
  | none => exact lv_ifnonnullN hx hb hdg (kf rfl)
  | some a => exact lv_ifnonnull hx hb hdg ht (kt (fun h => by cases h))
theorem g_dup (hx : p.tables.exec = Jvm.exec) (hb : c.code = cc) {r : Option Nat} (hdg : decode cc pc = .ok (.dup, 1)) (kk : W p l e R s m args below meth c H locs cells slots Q (F0 m (pc + 1) ls (va_rf r :: va_rf r :: rest))) : W p l e R s m args below meth c H locs cells slots Q (F0 m pc ls (va_rf r :: rest)) := lv_dup hx hb hdg (by cases r <;> rfl) kk
theorem g_pop (hx : p.tables.exec = Jvm.exec) (hb : c.code = cc) {r : Option Nat} (hdg : decode cc pc = .ok (.pop, 1)) (kk : W p l e R s m args below meth c H locs cells slots Q (F0 m (pc + 1) ls rest)) : W p l e R s m args below meth c H locs cells slots Q (F0 m pc ls (va_rf r :: rest)) := lv_pop hx hb hdg (by cases r <;> rfl) kk
/-! a String constant, wide -/
theorem g_ldcwS (hx : p.tables.exec = Jvm.exec) (hb : c.code = cc) {own tx : String} {index q : Nat} (hown : s.vm.findClass own = some m.cls) (hZ : vk_R own index tx q s) (hdg : decode cc pc = .ok (.ldc_w index, 3))
    (kk : W p l e R s m args below meth c H locs cells slots Q (F0 m (pc + 3) ls (.ref q :: rest))) : W p l e R s m args below meth c H locs cells slots Q (F0 m pc ls rest) := by
  intro T hT X
  obtain ⟨t, a1, b1⟩ := kk T hT X
  refine ⟨t, ?_, b1⟩
  obtain ⟨k, cf, i, a', hk, hcf, hcp, -, hr, hev'⟩ := Cond.stringRef_spec hown hZ.1
  cases hZ.2.symm.trans hev'
  obtain ⟨k', hk', he⟩ := X.warmed.alike.2.2 _ _ hk
  have hr' : k'.resolved[index]? = some (some (.string q)) := by
    rcases X.warmed.entry hk hk' index with h | ⟨h, -⟩
    · rw [h]; exact hr
    · rw [hr] at h; cases h
  rw [← hb] at hdg
  jvm_step X.here [hx, hdg, ldc_w.wp_string (e := e) (s := T) (f := F0 m pc ls rest) X.here.top hk' (by rw [he]; exact hcf) hcp hr']
  exact a1
/-! casts of Strings and byte arrays -/
theorem g_str (hI : gI D A σ H) (hK : gK D s) {a K : Nat} (hk : gk σ a = K) (h1 : 1 ≤ K ∧ K ≤ 6) : ∃ cell : Cell, H[a]? = some cell ∧ cell.vm.isStatics = false ∧ s.vm.findClass (gCl K).1 = some cell.cls := by
  obtain ⟨cell, q1, q2, q3, q4, q5, q6, q7⟩ := gobj hI hk h1
  refine ⟨cell, q1, ?_, by rw [q6, hk]; exact (hK.1 K h1.1 h1.2).2.1⟩
  cases h : cell.vm with
  | statics q => exact absurd h (q3 q)
  | _ => rfl
theorem g_inst (S : gS own R p c cc nL m s args D A) (hI : gI D A σ H) {r : Option Nat} {a : Nat} (hr : r = some a) (hk : gk σ a = 6) {idx : Nat} (hq : Cond.classLink own idx "java/lang/String" ∈ lw_all) (hdg : decode cc pc = .ok (.instanceof idx, 3))
    (kk : W p l e R s m args below meth c H locs cells slots Q (F0 m (pc + 3) ls (.int 1 :: rest))) : W p l e R s m args below meth c H locs cells slots Q (F0 m pc ls (va_rf r :: rest)) := by
  obtain ⟨hx, hb, -, hown, hts, hK, -⟩ := S
  subst hr
  exact va_instS hx hb hown (hts _ hq) (hK.1 6 (by decide) (by decide)).2 (g_str hI hK hk (by decide)) hdg kk
theorem g_cast (S : gS own R p c cc nL m s args D A) (hI : gI D A σ H) {r : Option Nat} {a : Nat} (hr : r = some a) (hk : gk σ a = 6) {idx : Nat} (hq : Cond.classLink own idx "java/lang/String" ∈ lw_all) (hdg : decode cc pc = .ok (.checkcast idx, 3))
    (kk : W p l e R s m args below meth c H locs cells slots Q (F0 m (pc + 3) ls (va_rf r :: rest))) : W p l e R s m args below meth c H locs cells slots Q (F0 m pc ls (va_rf r :: rest)) := by
  obtain ⟨hx, hb, -, hown, hts, hK, -⟩ := S
  subst hr
  exact va_castS hx hb hown (hts _ hq) (hK.1 6 (by decide) (by decide)).2 (g_str hI hK hk (by decide)) hdg kk
theorem arrV_of {cell : Cell} {n : Nat} {f : Nat → Value} (h1 : gclean cell) (h2 : cell.slots.size = n) (h3 : ∀ j, j < n → cell.slots[j]? = some (f j)) : cell = arrV cell.cls n f := by
  obtain ⟨cl, sl, mo, ha, vm⟩ := cell
  obtain ⟨e1, e2, e3⟩ := h1
  dsimp only at e1 e2 e3 h2 h3
  subst e1 e2 e3
  have hs : sl = Array.ofFn (n := n) (fun j => f j.val) := by
    apply Array.ext
    · simp; exact h2
    · intro i hi1 hi2
      have hin : i < n := by rw [← h2]; exact hi1
      have := h3 i hin
      simp only [Array.getElem_ofFn]
      have h9 : sl[i]? = some sl[i] := Array.getElem?_eq_getElem hi1
      exact Option.some.inj (h9.symm.trans this)
  rw [hs]
  rfl
/-- a byte array that may be written, as the kit's cell -/
theorem gbytes (hI : gI D A σ H) {a : Nat} (hk : gk σ a = 101) (hw : gb σ ≤ a) : H[a]? = some (arrV (D.2.2.1 101) (gn σ a) (fun j => .int (gi σ a j))) ∧ A a ∧ gn σ a < 2 ^ 31 ∧ (∀ j, j < gn σ a → fits .byte (.int (gi σ a j)) = true) := by
  obtain ⟨cell, q1, q2, q3, q4, y1, y2, y3, y4, y5, y6, y7⟩ := garr hI hk (Or.inr (Or.inl rfl))
  have hw : gwr σ a := Or.inr hw
  have e := arrV_of (f := fun j => .int (gi σ a j)) (q4 hw) (y4.2.2 hw) (fun j hj => by have := y6 j hj; rw [hk] at this; exact this)
  rw [y2 hw, hk] at e
  refine ⟨by rw [← e]; exact q1, hI.2.1 a (by omega) hw, y5, fun j hj => ?_⟩
  have h := y7 hk j hj
  rw [vp_nar_byte] at h
  exact fit_byte h
theorem g_castB (S : gS own R p c cc nL m s args D A) (hI : gI D A σ H) {r : Option Nat} {a : Nat} (hr : r = some a) (hk : gk σ a = 101) (hw : gb σ ≤ a) {idx : Nat} (hq : Cond.classLink own idx "[B" ∈ lw_all) (hdg : decode cc pc = .ok (.checkcast idx, 3))
    (kk : W p l e R s m args below meth c H locs cells slots Q (F0 m (pc + 3) ls (va_rf r :: rest))) : W p l e R s m args below meth c H locs cells slots Q (F0 m pc ls (va_rf r :: rest)) := by
  obtain ⟨hx, hb, -, hown, hts, hK, -⟩ := S
  subst hr
  obtain ⟨kA, comp, r1, r2, r3, -⟩ := hK.2.1 101 (Or.inr (Or.inl rfl))
  exact va_castA (D := (fun _ => 0, fun _ _ => 0)) (cl := []) (ws := [(a, .inl (D.2.2.1 101, gn σ a, .inl (gi σ a)))]) hx hb hown (hts _ hq) (fun k q hq => by
    cases k with
    | zero => cases hq; exact (gbytes hI hk hw).1
    | succ k => cases hq) 0 rfl r3 hdg kk
end Rows
end GKit
