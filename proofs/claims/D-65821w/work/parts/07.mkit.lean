/-! the twin's world: its object at mo, its arrays behind it; a state SM: the number fields, the arrays -/
section MKit
set_option maxRecDepth 100000
abbrev SM : Type := (Nat → Int32) × (Nat → Nat → Int32)
def sf (σ : SM) (k : Nat) (v : Int32) : SM := (upd σ.1 k v, σ.2)
def sa (σ : SM) (k i : Nat) (v : Int32) : SM := (σ.1, fun a => if a = k then upd (σ.2 k) i v else σ.2 a)
/-- the offset of a field's array behind the object (0: the field is a number), its length (of arrays of numbers), its kind -/
def mO (k : Nat) : Nat := ([0, 1, 2, 0, 3, 4, 5, 6, 0, 0, 0, 0, 7, 8, 9, 10, 0, 0, 0, 0, 0, 11, 12, 13, 14, 0, 0, 15, 16, 17, 18, 19, 20, 21, 22, 23, 24, 25, 26, 27, 28, 29, 30, 31, 32, 33, 34, 0, 0, 0, 0, 0, 0, 0, 0, 0, 0, 0, 0, 0, 0, 0, 35, 36, 37, 0, 0, 0, 0, 0, 0, 0, 0, 0, 0, 0, 0, 0, 0, 0, 38, 39] : List Nat).getD k 0
def mL (k : Nat) : Nat := ([0, 66000, 66000, 0, 24000, 24000, 24000, 4096, 0, 0, 0, 0, 65600, 65560, 65560, 65560, 0, 0, 0, 0, 0, 65540, 65540, 1, 1, 0, 0, 8300, 8300, 8300, 8300, 8300, 8300, 8300, 8300, 8300, 8300, 8300, 8300, 8300, 8300, 8300, 8300, 8300, 8300, 8300, 8300, 0, 0, 0, 0, 0, 0, 0, 0, 0, 0, 0, 0, 0, 0, 0, 0, 10, 10, 0, 0, 0, 0, 0, 0, 0, 0, 0, 0, 0, 0, 0, 0, 0, 65540, 65540] : List Nat).getD k 0
def mT (k : Nat) : Nat := ([0, 2, 2, 0, 0, 0, 0, 0, 0, 0, 0, 0, 1, 1, 1, 1, 0, 0, 0, 0, 0, 0, 0, 0, 0, 0, 0, 0, 0, 0, 0, 0, 0, 0, 0, 0, 0, 0, 0, 0, 0, 0, 0, 0, 0, 0, 0, 0, 0, 0, 0, 0, 0, 0, 0, 0, 0, 0, 0, 0, 0, 0, 3, 0, 0, 0, 0, 0, 0, 0, 0, 0, 0, 0, 0, 0, 0, 0, 0, 0, 0, 0] : List Nat).getD k 0
def mTy (t : Nat) : FieldType := match t with
  | 0 => .int
  | 1 => .byte
  | 2 => .char
  | _ => .object "java/lang/String"
abbrev mD : Type := ClassId × (Nat → Nat) × (Nat → ClassId)
def mV (mo : Nat) (σ : SM) (k : Nat) : Value := if mO k = 0 then .int (σ.1 k) else .ref (mo + mO k)
def mA (mo : Nat) : Nat → Prop := fun q => mo ≤ q ∧ q ≤ mo + 39
def mP (D : mD) (mo : Nat) (kn : Nat → Nat) (σ : SM) (H : Heap) : Prop :=
  t_OB mo D.1 82 D.2.1 H (mV mo σ) ∧ (∀ k, k < 82 → mL k ≠ 0 → H[mo + mO k]? = some (arrV (D.2.2 (mT k)) (mL k) (fun j => .int (σ.2 k j)))) ∧ H[mo + 35]? = some (arrV (D.2.2 3) 10 (fun j => va_rf (some (kn j))))
def mK (D : mD) (U : State) : Prop := u_Kn U RX2 TX2 82 D.1 D.2.1 ∧ ∀ t, t < 4 → ArrOfT U (D.2.2 t) (mTy t)
def mLen : List Nat := [13, 4, 10, 13, 12, 16, 8, 11, 6, 19, 6, 8, 16, 18, 202]
def mByt : List (List Int32) := [[67, 111, 110, 115, 116, 97, 110, 116, 86, 97, 108, 117, 101],
  [67, 111, 100, 101],
  [69, 120, 99, 101, 112, 116, 105, 111, 110, 115],
  [83, 116, 97, 99, 107, 77, 97, 112, 84, 97, 98, 108, 101],
  [73, 110, 110, 101, 114, 67, 108, 97, 115, 115, 101, 115],
  [66, 111, 111, 116, 115, 116, 114, 97, 112, 77, 101, 116, 104, 111, 100, 115],
  [78, 101, 115, 116, 72, 111, 115, 116],
  [78, 101, 115, 116, 77, 101, 109, 98, 101, 114, 115],
  [82, 101, 99, 111, 114, 100],
  [80, 101, 114, 109, 105, 116, 116, 101, 100, 83, 117, 98, 99, 108, 97, 115, 115, 101, 115],
  [60, 105, 110, 105, 116, 62],
  [60, 99, 108, 105, 110, 105, 116, 62],
  [106, 97, 118, 97, 47, 108, 97, 110, 103, 47, 79, 98, 106, 101, 99, 116],
  [76, 106, 97, 118, 97, 47, 108, 97, 110, 103, 47, 83, 116, 114, 105, 110, 103, 59],
  [49, 49, 49, 49, 49, 49, 49, 49, 49, 49, 49, 49, 49, 49, 49, 49, 50, 51, 50, 51, 51, 50, 50, 50, 50, 50, 49, 49, 49, 49, 49, 49, 49, 49, 49, 49, 49, 49, 49, 49, 49, 49, 49, 49, 49, 49, 49, 49, 49, 49, 49, 49, 49, 49, 50, 50, 50, 50, 50, 49, 49, 49, 49, 49, 49, 49, 49, 49, 49, 49, 49, 49, 49, 49, 49, 49, 49, 49, 49, 49, 49, 49, 49, 49, 49, 49, 49, 49, 49, 49, 49, 49, 49, 49, 49, 49, 49, 49, 49, 49, 49, 49, 49, 49, 49, 49, 49, 49, 49, 49, 49, 49, 49, 49, 49, 49, 49, 49, 49, 49, 49, 49, 49, 49, 49, 49, 49, 49, 49, 49, 49, 49, 51, 49, 49, 49, 49, 49, 49, 49, 49, 49, 49, 49, 49, 49, 49, 49, 49, 49, 49, 49, 49, 51, 51, 51, 51, 51, 51, 51, 51, 51, 51, 51, 51, 51, 51, 51, 51, 50, 48, 48, 49, 49, 49, 49, 49, 49, 51, 51, 51, 51, 51, 51, 51, 53, 53, 51, 50, 51, 49, 49, 51, 51, 49, 49, 48, 52, 51, 51, 53, 53]]
def mIx (j : Nat) : Nat := ([127, 129, 131, 133, 135, 137, 139, 141, 143, 145, 178, 186, 191, 383, 480] : List Nat).getD j 0
def mTx (j : Nat) : String := (["ConstantValue", "Code", "Exceptions", "StackMapTable", "InnerClasses", "BootstrapMethods", "NestHost", "NestMembers", "Record", "PermittedSubclasses", "<init>", "<clinit>", "java/lang/Object", "Ljava/lang/String;", "1111111111111111232332222211111111111111111111111111112222211111111111111111111111111111111111111111111111111111111111111111111111113111111111111111111113333333333333333200111111333333355323113311043355"] : List String).getD j ""
/-- the String constants of the twin: 0..9 KNOWN, <init>, <clinit>, java/lang/Object, Ljava/lang/String;, LENGTHS -/
def lx (j : Nat) : Nat := mLen.getD j 0
def cx (j i : Nat) : Int32 := (mByt.getD j []).getD i 0
theorem lx_ok : ∀ j, j < 15 → lx j < 2 ^ 31 ∧ ∀ i, i < lx j → ((mByt.getD j []).getD i 0).toInt8.toInt32 = (mByt.getD j []).getD i 0 ∧ ((((mByt.getD j []).getD i 0) &&& (255 : Int32)).toUInt32 % 65536).toInt32 = (mByt.getD j []).getD i 0 ∧ vp_nar .char ((mByt.getD j []).getD i 0) = (mByt.getD j []).getD i 0 := by decide +kernel
def mZ (mo : Nat) (kn kv : Nat → Nat) (U : State) : Prop :=
  (∀ j, j < 15 → vk_S 1 [lx j] [mByt.getD j []] (fun _ => kn j) (fun _ => kv j) (mA mo) U U.heap) ∧ (∀ j, j < 15 → vk_R RX2 (mIx j) (mTx j) (kn j) U) ∧ ∃ G : gD, gK G U ∧ gZ G (mA mo) U
def ckJ {α : Type} (j : Nat) (k : Option α) : Option α := if j < 15 then k else none
theorem ckJ_some {α : Type} {j : Nat} {k : Option α} {r : α} (h : ckJ j k = some r) : j < 15 ∧ k = some r := by
  unfold ckJ at h
  split at h
  · rename_i q
    exact ⟨q, h⟩
  · cases h
def mU (D : mD) (mo : Nat) (kn kv : Nat → Nat) (σ : SM) (U : State) : Prop := mP D mo kn σ U.heap ∧ mK D U ∧ mZ mo kn kv U
def mQ (v : Option Value) (D : mD) (mo : Nat) (kn : Nat → Nat) (σ : SM) : Array Value → State → Outcome → State → Prop := fun _ st oc t => oc = .returned v ∧ mP D mo kn σ t.heap ∧ va_F (mA mo) st t
theorem mK.moved {D : mD} {u U : State} (hvm : u.vm.Alike U.vm) (h : mK D u) : mK D U := ⟨u_Kn_moved hvm h.1, fun t ht => arrOfT_moved hvm (h.2 t ht)⟩
theorem mU.blind {D : mD} {mo : Nat} {kn kv : Nat → Nat} {σ : SM} {av : List Value} : FrameBlind (va_Pc av (mU D mo kn kv σ)) := by
  intro a U g mk ⟨h1, hP, hK, hZ, hR, G, hG1, hG2⟩
  exact ⟨h1, hP, hK.moved (u := U) (U := U.calling g mk a) (Vm.Alike.refl U.vm), fun j hj => vk_S.moved (u := U) (U := U.calling g mk a) (Vm.Alike.refl U.vm) (hZ j hj), fun j hj => vk_R.same (u := U) (U := U.calling g mk a) rfl (hR j hj), G, hG1.moved (u := U) (U := U.calling g mk a) (Vm.Alike.refl U.vm), hG2.same (u := U) (U := U.calling g mk a) rfl rfl⟩
theorem mO_ne : ∀ j, j < 82 → ∀ k, k < 82 → mO j ≠ 0 → j ≠ k → mO j ≠ mO k := by decide +kernel
theorem mO_L : ∀ k, k < 82 → mL k ≠ 0 → mO k ≠ 0 := by decide +kernel
theorem mO_K : ∀ k, k < 82 → mL k ≠ 0 → mO k ≠ 35 := by decide +kernel
theorem mO_le : ∀ k, k < 82 → mO k ≤ 39 := by decide +kernel
section Rows
variable {p : Program} {l : Launch} {e : Env} {R : Room} {s : State} {m : MethodId} {args : Array Value} {below : List Frame} {meth : Method} {c : Code} {H : Heap} {locs : List Loc} {cells slots : Nat} {Q : State → Prop}
variable {cc : ByteArray} {pc nL : Nat} {ls : Array Slot} {rest : List Value} {D : mD} {mo : Nat} {kn kv : Nat → Nat} {σ : SM} {H0 : Heap}
def mS (p : Program) (c : Code) (cc : ByteArray) (nL : Nat) (m : MethodId) (s : State) (args : Array Value) (D : mD) (mo : Nat) (kn kv : Nat → Nat) : Prop :=
  p.tables.exec = Jvm.exec ∧ c.code = cc ∧ c.maxLocals = nL ∧ s.vm.findClass RX2 = some m.cls ∧ (∀ w ∈ lw_all, w.before args s = true) ∧ mK D s ∧ mZ mo kn kv s
theorem m_get (S : mS p c cc nL m s args D mo kn kv) (hP : mP D mo kn σ H) (k : Nat) (hk : k < 82) {idx : Nat} {v : Value} (hv : mV mo σ k = v) (hq : Cond.fieldLink RX2 idx (TX2 k).1 (TX2 k).2.1 (TX2 k).2.2.1 ∈ lw_all) (hdg : decode cc pc = .ok (.getfield idx, 3))
    (kk : W p l e R s m args below meth c H locs cells slots Q (F0 m (pc + 3) ls (v :: rest))) : W p l e R s m args below meth c H locs cells slots Q (F0 m pc ls (.ref mo :: rest)) := by
  obtain ⟨hx, hb, -, hown, hts, ⟨⟨hS, hfc, kC, hkC, hkind⟩, -⟩, -⟩ := S
  obtain ⟨⟨cell, q1, q2, q3, q4⟩, -⟩ := hP
  obtain ⟨cf, kf, fi, f, hi, hsl⟩ := hS k hk
  refine W.getf hx hb hown (hts _ hq) hi (u_facts hfc hkC (u_lays hts in_X2 hk) hi).1 q1 (by rw [q3]; exact fun h => by cases h) (v := v) ?_ rfl rfl hdg kk
  rw [hsl, q4 k hk, hv]
theorem m_apart {args : Array Value} {s : State} (hts : ∀ w ∈ lw_all, w.before args s = true) (hK : mK D s) : ∀ x y, x < 82 → y < 82 → x ≠ y → D.2.1 x ≠ D.2.1 y := by
  intro x y hx hy hne
  obtain ⟨⟨hS, -⟩, -⟩ := hK
  obtain ⟨_, _, _, fa, hia, ea⟩ := hS x hx
  obtain ⟨_, _, _, fb, hib, eb⟩ := hS y hy
  rw [← ea, ← eb]
  refine u_apart (u_lays hts in_X2 hx) (u_lays hts in_X2 hy) hia hib ?_
  rw [(State.fieldFound?_type hia (tyX2_ok x hx)).1, (State.fieldFound?_type hib (tyX2_ok y hy)).1]
  exact nmX2 x hx y hy hne
theorem m_put (S : mS p c cc nL m s args D mo kn kv) (hP : mP D mo kn σ H) (hS0 : va_S (mA mo) H0 H locs) (k : Nat) (hk : k < 82) (h0 : mO k = 0) (hfin : (TX2 k).2.2.2 = false) (hty : tyX2 k = .int) {idx : Nat} {v : Int32} (hq : Cond.fieldLink RX2 idx (TX2 k).1 (TX2 k).2.1 (TX2 k).2.2.1 ∈ lw_all) (hdg : decode cc pc = .ok (.putfield idx, 3))
    (kk : ∀ (H1 : Heap) (locs1 : List Loc), mP D mo kn (sf σ k v) H1 → va_S (mA mo) H0 H1 locs1 → W p l e R s m args below meth c H1 locs1 cells slots Q (F0 m (pc + 3) ls rest)) : W p l e R s m args below meth c H locs cells slots Q (F0 m pc ls (.int v :: .ref mo :: rest)) := by
  obtain ⟨hx, hb, -, hown, hts, hK, -⟩ := S
  have hap := m_apart hts hK
  obtain ⟨⟨hS, hfc, kC, hkC, hkind⟩, -⟩ := hK
  obtain ⟨⟨cell, q1, q2, q3, q4⟩, qa, qk⟩ := hP
  obtain ⟨cf, kf, fi, f, hi, hsl⟩ := hS k hk
  have hlay := hts _ (in_X2 _ (u_in_lay hk))
  unfold u_lay at hlay
  rw [if_neg (by rw [hfin]; decide)] at hlay
  have hst := (u_facts hfc hkC (u_lays hts in_X2 hk) hi).1
  have h6 := u_store (v := .int v) hfc hkC hkind hlay hi (tyX2_ok k hk) (by rw [hty]; rfl) (by rw [hty]; rfl)
  refine W.putK hx hb (f := f) ⟨hown, hts _ hq, ⟨_, _, _, hi⟩, hst⟩ (by rw [q2]; exact h6) q1 q3 (by rw [hsl]; exact k2_hasslot (q4 k hk)) rfl rfl hdg fun H' e1 e2 e3 => ?_
  rw [hsl] at e1 ⊢
  refine kk H' _ ⟨t_OB.to (V := updV (mV mo σ) k (.int v)) ⟨_, e1, q2, q3, t_set q4 hap hk (.int v)⟩ (fun j hj => ?_), fun j hj hl => ?_, ?_⟩ (hS0.put e2 e3 ⟨Nat.le_refl _, Nat.le_add_right _ _⟩)
  · unfold updV mV sf upd
    by_cases hjk : j = k
    · subst hjk
      simp [h0]
    · simp [hjk]
  · have hne : ¬ (mo + mO j : Nat) = mo := by
      have := mO_L j hj hl
      omega
    rw [e3 (mo + mO j) hne]
    exact qa j hj hl
  · have hne : ¬ (mo + 35 : Nat) = mo := by omega
    rw [e3 (mo + 35) hne]
    exact qk
theorem m_iald (S : mS p c cc nL m s args D mo kn kv) (hP : mP D mo kn σ H) (k : Nat) (hk : k < 82) (hl : mL k ≠ 0) (ht : mT k = 0) {o n : Nat} (ho : mO k = o) (hn : mL k = n) {i : Int32} (hin : vp_in i n) (hdg : decode cc pc = .ok (.iaload, 1))
    (kk : W p l e R s m args below meth c H locs cells slots Q (F0 m (pc + 1) ls (.int (σ.2 k i.toNatClampNeg) :: rest))) : W p l e R s m args below meth c H locs cells slots Q (F0 m pc ls (.int i :: .ref (mo + o) :: rest)) := by
  obtain ⟨hx, hb, -, -, -, ⟨-, hK⟩, -⟩ := S
  subst ho hn
  have hlt : i.toNatClampNeg < mL k := Nat.not_le.mp fun q => hin (Or.inr q)
  have hc := hP.2.1 k hk hl
  rw [ht] at hc
  exact W.iald (v := .int (σ.2 k i.toNatClampNeg)) hx hb hc (hK 0 (by decide) (mL k) (fun j => .int (σ.2 k j))) (fun q => by cases q) (by rw [arrV_size]; exact hin) (by rw [arrV_read _ _ hlt]) rfl rfl hdg kk
theorem m_bald (S : mS p c cc nL m s args D mo kn kv) (hP : mP D mo kn σ H) (k : Nat) (hk : k < 82) (hl : mL k ≠ 0) (ht : mT k = 1) {o n : Nat} (ho : mO k = o) (hn : mL k = n) {i : Int32} (hin : vp_in i n) (hdg : decode cc pc = .ok (.baload, 1))
    (kk : W p l e R s m args below meth c H locs cells slots Q (F0 m (pc + 1) ls (.int (σ.2 k i.toNatClampNeg) :: rest))) : W p l e R s m args below meth c H locs cells slots Q (F0 m pc ls (.int i :: .ref (mo + o) :: rest)) := by
  obtain ⟨hx, hb, -, -, -, ⟨-, hK⟩, -⟩ := S
  subst ho hn
  have hlt : i.toNatClampNeg < mL k := Nat.not_le.mp fun q => hin (Or.inr q)
  have hc := hP.2.1 k hk hl
  rw [ht] at hc
  exact W.bald (v := .int (σ.2 k i.toNatClampNeg)) hx hb hc (hK 1 (by decide) (mL k) (fun j => .int (σ.2 k j))) (fun q => by cases q) (by rw [arrV_size]; exact hin) (by rw [arrV_read _ _ hlt]) rfl rfl hdg kk
theorem m_cald (S : mS p c cc nL m s args D mo kn kv) (hP : mP D mo kn σ H) (k : Nat) (hk : k < 82) (hl : mL k ≠ 0) (ht : mT k = 2) {o n : Nat} (ho : mO k = o) (hn : mL k = n) {i : Int32} (hin : vp_in i n) (hdg : decode cc pc = .ok (.caload, 1))
    (kk : W p l e R s m args below meth c H locs cells slots Q (F0 m (pc + 1) ls (.int (σ.2 k i.toNatClampNeg) :: rest))) : W p l e R s m args below meth c H locs cells slots Q (F0 m pc ls (.int i :: .ref (mo + o) :: rest)) := by
  obtain ⟨hx, hb, -, -, -, ⟨-, hK⟩, -⟩ := S
  subst ho hn
  have hlt : i.toNatClampNeg < mL k := Nat.not_le.mp fun q => hin (Or.inr q)
  have hc := hP.2.1 k hk hl
  rw [ht] at hc
  exact W.cald (v := .int (σ.2 k i.toNatClampNeg)) hx hb hc (hK 2 (by decide) (mL k) (fun j => .int (σ.2 k j))) (fun q => by cases q) (by rw [arrV_size]; exact hin) (by rw [arrV_read _ _ hlt]) rfl rfl hdg kk
/-- the world behind a store at place i of the array k -/
theorem mP.ast {H H1 : Heap} (hP : mP D mo kn σ H) (k : Nat) (hk : k < 82) (hl : mL k ≠ 0) (i : Nat) (v : Int32) (e : H1[mo + mO k]? = some ((arrV (D.2.2 (mT k)) (mL k) (fun j => .int (σ.2 k j))).setSlot i (.int v))) (oq : ∀ q, q ≠ mo + mO k → H1[q]? = H[q]?) : mP D mo kn (sa σ k i v) H1 := by
  obtain ⟨h1, h2, h3⟩ := hP
  refine ⟨?_, fun j hj hlj => ?_, ?_⟩
  · exact (h1.kept (oq mo (by have := mO_L k hk hl; omega))).to (fun j _ => rfl)
  · by_cases hjk : j = k
    · subst hjk
      rw [e, arrV_store]
      congr 2
      funext q
      by_cases hq : q = i
      · subst hq
        simp [updV, upd, sa]
      · simp [updV, upd, sa, hq]
    · rw [oq (mo + mO j) (by have := mO_ne j hj k hk (mO_L j hj hlj) hjk; omega), h2 j hj hlj]
      simp [sa, hjk]
  · rw [oq (mo + 35) (by have := mO_K k hk hl; omega)]
    exact h3
theorem m_iast (S : mS p c cc nL m s args D mo kn kv) (hP : mP D mo kn σ H) (hS0 : va_S (mA mo) H0 H locs) (k : Nat) (hk : k < 82) (hl : mL k ≠ 0) (ht : mT k = 0) {o n : Nat} (ho : mO k = o) (hn : mL k = n) {i x : Int32} (hin : vp_in i n) (hdg : decode cc pc = .ok (.iastore, 1))
    (kk : ∀ (H1 : Heap) (locs1 : List Loc), mP D mo kn (sa σ k i.toNatClampNeg x) H1 → va_S (mA mo) H0 H1 locs1 → W p l e R s m args below meth c H1 locs1 cells slots Q (F0 m (pc + 1) ls rest)) : W p l e R s m args below meth c H locs cells slots Q (F0 m pc ls (.int x :: .int i :: .ref (mo + o) :: rest)) := by
  obtain ⟨hx, hb, -, -, -, ⟨-, hK⟩, -⟩ := S
  subst ho hn
  have hc := hP.2.1 k hk hl
  have hT := hK (mT k) (by rw [ht]; decide) (mL k) (fun j => .int (σ.2 k j))
  rw [show mTy (mT k) = .int by rw [ht]; rfl] at hT
  refine W.iast hx hb hc hT (fun q => by cases q) (by rw [arrV_size]; exact hin) rfl rfl hdg fun H1 e z oq => ?_
  exact kk H1 _ (hP.ast k hk hl _ _ e oq) (hS0.put z oq ⟨Nat.le_add_right _ _, Nat.add_le_add_left (mO_le k hk) _⟩)
theorem m_bast (S : mS p c cc nL m s args D mo kn kv) (hP : mP D mo kn σ H) (hS0 : va_S (mA mo) H0 H locs) (k : Nat) (hk : k < 82) (hl : mL k ≠ 0) (ht : mT k = 1) {o n : Nat} (ho : mO k = o) (hn : mL k = n) {i x : Int32} (hin : vp_in i n) (hdg : decode cc pc = .ok (.bastore, 1))
    (kk : ∀ (H1 : Heap) (locs1 : List Loc), mP D mo kn (sa σ k i.toNatClampNeg (vp_nar .byte x)) H1 → va_S (mA mo) H0 H1 locs1 → W p l e R s m args below meth c H1 locs1 cells slots Q (F0 m (pc + 1) ls rest)) : W p l e R s m args below meth c H locs cells slots Q (F0 m pc ls (.int x :: .int i :: .ref (mo + o) :: rest)) := by
  obtain ⟨hx, hb, -, -, -, ⟨-, hK⟩, -⟩ := S
  subst ho hn
  have hc := hP.2.1 k hk hl
  have hT := hK (mT k) (by rw [ht]; decide) (mL k) (fun j => .int (σ.2 k j))
  rw [show mTy (mT k) = .byte by rw [ht]; rfl] at hT
  refine W.bast hx hb hc hT (fun q => by cases q) (by rw [arrV_size]; exact hin) rfl rfl hdg fun H1 e z oq => ?_
  exact kk H1 _ (hP.ast k hk hl _ _ e oq) (hS0.put z oq ⟨Nat.le_add_right _ _, Nat.add_le_add_left (mO_le k hk) _⟩)
theorem m_cast (S : mS p c cc nL m s args D mo kn kv) (hP : mP D mo kn σ H) (hS0 : va_S (mA mo) H0 H locs) (k : Nat) (hk : k < 82) (hl : mL k ≠ 0) (ht : mT k = 2) {o n : Nat} (ho : mO k = o) (hn : mL k = n) {i x : Int32} (hin : vp_in i n) (hdg : decode cc pc = .ok (.castore, 1))
    (kk : ∀ (H1 : Heap) (locs1 : List Loc), mP D mo kn (sa σ k i.toNatClampNeg (vp_nar .char x)) H1 → va_S (mA mo) H0 H1 locs1 → W p l e R s m args below meth c H1 locs1 cells slots Q (F0 m (pc + 1) ls rest)) : W p l e R s m args below meth c H locs cells slots Q (F0 m pc ls (.int x :: .int i :: .ref (mo + o) :: rest)) := by
  obtain ⟨hx, hb, -, -, -, ⟨-, hK⟩, -⟩ := S
  subst ho hn
  have hc := hP.2.1 k hk hl
  have hT := hK (mT k) (by rw [ht]; decide) (mL k) (fun j => .int (σ.2 k j))
  rw [show mTy (mT k) = .char by rw [ht]; rfl] at hT
  refine W.cast hx hb hc hT (fun q => by cases q) (by rw [arrV_size]; exact hin) rfl rfl hdg fun H1 e z oq => ?_
  exact kk H1 _ (hP.ast k hk hl _ _ e oq) (hS0.put z oq ⟨Nat.le_add_right _ _, Nat.add_le_add_left (mO_le k hk) _⟩)
theorem m_aald (S : mS p c cc nL m s args D mo kn kv) (hP : mP D mo kn σ H) {i : Int32} (hin : vp_in i 10) (hdg : decode cc pc = .ok (.aaload, 1))
    (kk : W p l e R s m args below meth c H locs cells slots Q (F0 m (pc + 1) ls (.ref (kn i.toNatClampNeg) :: rest))) : W p l e R s m args below meth c H locs cells slots Q (F0 m pc ls (.int i :: .ref (mo + 35) :: rest)) := by
  obtain ⟨hx, hb, -, -, -, ⟨-, hK⟩, -⟩ := S
  have hlt : i.toNatClampNeg < 10 := Nat.not_le.mp fun q => hin (Or.inr q)
  exact W.aald (v := .ref (kn i.toNatClampNeg)) hx hb hP.2.2 (hK 3 (by decide) 10 (fun j => va_rf (some (kn j)))) rfl (fun q => by cases q) (by rw [arrV_size]; exact hin) (by rw [arrV_read _ _ hlt]; rfl) rfl rfl hdg kk
theorem m_alenK (S : mS p c cc nL m s args D mo kn kv) (hP : mP D mo kn σ H) (hdg : decode cc pc = .ok (.arraylength, 1))
    (kk : W p l e R s m args below meth c H locs cells slots Q (F0 m (pc + 1) ls (.int 10 :: rest))) : W p l e R s m args below meth c H locs cells slots Q (F0 m pc ls (.ref (mo + 35) :: rest)) := by
  obtain ⟨hx, hb, -, -, -, ⟨-, hK⟩, -⟩ := S
  exact W.alen (n := 10) hx hb hP.2.2 (hK 3 (by decide) 10 (fun j => va_rf (some (kn j)))) (by rw [arrV_size]; rfl) rfl rfl hdg kk
/-- the twin's world, handed to a callee -/
theorem mU.hand (S : mS p c cc nL m s args D mo kn kv) (hP : mP D mo kn σ H) (hS : va_S (mA mo) s.heap H locs) {U : State} (hU : U.heap = H) (hW : s.WarmedH U.vm) : mU D mo kn kv σ U := by
  obtain ⟨-, -, -, -, -, hK, hZ, hR, G, hG1, hG2⟩ := S
  refine ⟨by rw [hU]; exact hP, hK.moved hW.alike, fun j hj => ?_, fun j hj => (hR j hj).warm hW, G, hG1.moved hW.alike, hG2.hand hS hU hW⟩
  rw [hU]
  exact vk_S.moved hW.alike ((hZ j hj).kept hS.2.1)
theorem m_call (S : mS p c cc nL m s args D mo kn kv) (hP : mP D mo kn σ H) (hS : va_S (mA mo) s.heap H locs) {y : MethodName} {bytes : ByteArray} {maxL n idx : Nat} {ret : Option FieldType} {ws : List Cond} {rm : Room} {v : Option Value} {σ' : SM} {As : List Value}
    (hM : Met l y ws rm (va_Pc (.ref mo :: As) (mU D mo kn kv σ)) (mQ v D mo kn σ') 0 0 (mA mo)) (cw : CallW R s args RX2 RX2 idx y bytes maxL ret ws rm 0 0 n)
    (hn : As.length = n) (hsz : ls.size = nL) (hW : (rest.map fun v => v.category).sum ≤ 8) (hdg : decode cc pc = .ok (.invokevirtual idx, 3)) (hf : cells ≤ R.cells ∧ slots ≤ R.slots) {st : List Value} (hst : st = As.reverse ++ .ref mo :: rest)
    (kk : ∀ (H1 : Heap) (locs1 : List Loc), mP D mo kn σ' H1 → va_S (mA mo) s.heap H1 locs1 → W p l e R s m args below meth c H1 locs1 cells slots Q (F0 m (pc + 3) ls (v.toList ++ rest))) : W p l e R s m args below meth c H locs cells slots Q (F0 m pc ls st) := by
  have hr := va_runV (H := H) (locs := locs) (cells := cells) (slots := slots) (below := below) (meth := meth) (e := e) (g := F0 m pc ls st) (As := As) (rest := rest) ⟨S.1, S.2.1, S.2.2.1, S.2.2.2.1, S.2.2.2.2.1⟩ hM cw
    ⟨mU.blind, by
      obtain ⟨cell, h1, h2, h3, -⟩ := hP.1
      exact ⟨cell, h1, by rw [h3]; rfl, by rw [h2]; exact S.2.2.2.2.2.1.1.2.1⟩, fun U hU hW => ⟨rfl, mU.hand S hP hS hU hW⟩⟩ rfl hn hsz hst (lv_room hW) hdg hf
  intro T hT X
  obtain ⟨v1, st₀, t, T', L, h0, X', hL, e1, e2, ⟨hv, hp, hz, hk⟩, stp⟩ := hr T hT X
  cases hv
  rw [h0] at hz hk
  obtain ⟨t2, a1, b1⟩ := kk T'.heap (locs ++ L) (by rw [e1]; exact hp)
    ⟨Nat.le_trans hS.1 (by rw [e1]; exact hz), fun q h1 h2 => by rw [e1, hk q (Nat.lt_of_lt_of_le h1 hS.1) h2]; exact hS.2.1 q h1 h2, fun q hq => by
      rcases List.mem_append.mp hq with h | h
      · exact hS.2.2 q h
      · exact hL q h⟩ T' rfl X'
  exact ⟨t2, stp t2 a1, b1⟩
theorem m_callS (S : mS p c cc nL m s args D mo kn kv) (hP : mP D mo kn σ H) (hS : va_S (mA mo) s.heap H locs) {y : MethodName} {bytes : ByteArray} {maxL n idx : Nat} {ret : Option FieldType} {ws : List Cond} {rm : Room} {v : Option Value} {σ' : SM} {As : List Value}
    (hM : Met l y ws rm (va_Pc As (mU D mo kn kv σ)) (mQ v D mo kn σ') 0 0 (mA mo)) (cw : CallB R s args RX2 idx y bytes maxL ret ws rm 0 0 n ∧ (Cond.static y).before args s = true)
    (hn : As.length = n) (hsz : ls.size = nL) (hW : (rest.map fun v => v.category).sum ≤ 8) (hdg : decode cc pc = .ok (.invokestatic idx, 3)) (hf : cells ≤ R.cells ∧ slots ≤ R.slots) {st : List Value} (hst : st = As.reverse ++ rest)
    (kk : ∀ (H1 : Heap) (locs1 : List Loc), mP D mo kn σ' H1 → va_S (mA mo) s.heap H1 locs1 → W p l e R s m args below meth c H1 locs1 cells slots Q (F0 m (pc + 3) ls (v.toList ++ rest))) : W p l e R s m args below meth c H locs cells slots Q (F0 m pc ls st) := by
  have hr := va_runS (H := H) (locs := locs) (cells := cells) (slots := slots) (below := below) (meth := meth) (e := e) (g := F0 m pc ls st) (As := As) (rest := rest) ⟨S.1, S.2.1, S.2.2.1, S.2.2.2.1, S.2.2.2.2.1⟩ hM cw
    ⟨mU.blind, fun U hU hW => ⟨rfl, mU.hand S hP hS hU hW⟩⟩ rfl hn hsz hst (lv_room hW) hdg hf
  intro T hT X
  obtain ⟨v1, st₀, t, T', L, h0, X', hL, e1, e2, ⟨hv, hp, hz, hk⟩, stp⟩ := hr T hT X
  cases hv
  rw [h0] at hz hk
  obtain ⟨t2, a1, b1⟩ := kk T'.heap (locs ++ L) (by rw [e1]; exact hp)
    ⟨Nat.le_trans hS.1 (by rw [e1]; exact hz), fun q h1 h2 => by rw [e1, hk q (Nat.lt_of_lt_of_le h1 hS.1) h2]; exact hS.2.1 q h1 h2, fun q hq => by
      rcases List.mem_append.mp hq with h | h
      · exact hS.2.2 q h
      · exact hL q h⟩ T' rfl X'
  exact ⟨t2, stp t2 a1, b1⟩
end Rows
end MKit
