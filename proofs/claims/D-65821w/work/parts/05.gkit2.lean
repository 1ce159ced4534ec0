/-! the component's world: calls, returns, copies -/
section GKit2
set_option maxRecDepth 100000
variable {p : Program} {l : Launch} {e : Env} {R : Room} {s : State} {m : MethodId} {args : Array Value} {below : List Frame} {meth : Method} {c : Code} {H : Heap} {locs : List Loc} {cells slots : Nat} {Q : State → Prop}
variable {cc : ByteArray} {pc nL : Nat} {ls : Array Slot} {rest : List Value} {D : gD} {A : Nat → Prop} {σ σ' : GS} {own : String}
abbrev gRm (σ : GS) (f n : Nat) : Room := { frames := f, cells := gc σ, slots := gs σ, locals := n }
theorem gU.hand (S : gS own R p c cc nL m s args D A) (hI : gI D A σ H) (hS : va_S A s.heap H locs) {U : State} (hU : U.heap = H) (hW : s.WarmedH U.vm) : gU D A σ U := by
  obtain ⟨-, -, -, -, -, hK, hZ, -⟩ := S
  exact ⟨by rw [hU]; exact hI, hK.moved hW.alike, hZ.hand hS hU hW⟩
theorem g_fin (S : gS own R p c cc nL m s args D A) (hI : gI D A σ H) (hS : va_S A s.heap H locs) {v : Option Value} {st : List Value} {av : Array Value}
    (hr : ∀ cells slots : Nat, cells + gc σ = R.cells → slots + gs σ = R.slots → va_Run p l e R s m args below meth c H locs cells slots (gc σ) (gs σ) (F0 m pc ls st) rest (gQ v D A σ' av) A)
    (kk : ∀ (H1 : Heap) (locs1 : List Loc) (cells slots : Nat), gI D A σ' H1 → va_S A s.heap H1 locs1 → W p l e R s m args below meth c H1 locs1 cells slots Q (F0 m (pc + 3) ls (v.toList ++ rest))) : W p l e R s m args below meth c H locs cells slots Q (F0 m pc ls st) := by
  refine W.grown fun hz => g_nar S hI hS (fun cells slots ec es => ?_) hz
  intro T hT X
  obtain ⟨v1, st₀, t, T', L, h0, X', hL, e1, e2, ⟨hv, hp, hz1, hk⟩, stp⟩ := hr cells slots ec es T hT X
  cases hv
  rw [h0] at hz1 hk
  obtain ⟨t2, a1, b1⟩ := kk T'.heap (locs ++ L) _ _ (by rw [e1]; exact hp)
    ⟨Nat.le_trans hS.1 (by rw [e1]; exact hz1), fun q h1 h2 => by rw [e1, hk q (Nat.lt_of_lt_of_le h1 hS.1) h2]; exact hS.2.1 q h1 h2, fun q hq => by
      rcases List.mem_append.mp hq with h | h
      · exact hS.2.2 q h
      · exact hL q h⟩ T' rfl X'
  exact ⟨t2, stp t2 a1, b1⟩
theorem g_callV (S : gS own R p c cc nL m s args D A) (hI : gI D A σ H) (hS : va_S A s.heap H locs) {y : MethodName} {bytes : ByteArray} {maxL n idx f L : Nat} {ret : Option FieldType} {ws : List Cond} {v : Option Value} {As : List Value} {a K : Nat}
    (hM : Met l y ws (gRm σ f L) (va_Pc (.ref a :: As) (gU D A σ)) (gQ v D A σ') (gc σ) (gs σ) A) (hk : gk σ a = K) (h1 : 1 ≤ K ∧ K ≤ 6) (cw : CallW R s args own (gCl K).1 idx y bytes maxL ret ws (gRm σ f L) (gc σ) (gs σ) n)
    (hn : As.length = n) (hsz : ls.size = nL) (hW : (rest.map fun v => v.category).sum ≤ 8) (hdg : decode cc pc = .ok (.invokevirtual idx, 3)) {st : List Value} (hst : st = As.reverse ++ .ref a :: rest)
    (kk : ∀ (H1 : Heap) (locs1 : List Loc) (cells slots : Nat), gI D A σ' H1 → va_S A s.heap H1 locs1 → W p l e R s m args below meth c H1 locs1 cells slots Q (F0 m (pc + 3) ls (v.toList ++ rest))) : W p l e R s m args below meth c H locs cells slots Q (F0 m pc ls st) :=
  g_fin S hI hS (fun cells slots ec es => va_runV (g := F0 m pc ls st) (As := As) (rest := rest) ⟨S.1, S.2.1, S.2.2.1, S.2.2.2.1, S.2.2.2.2.1⟩ hM cw
    ⟨gU.blind, g_str hI S.2.2.2.2.2.1 hk h1, fun U hU hW => ⟨rfl, gU.hand S hI hS hU hW⟩⟩ rfl hn hsz hst (lv_room hW) hdg ⟨by omega, by omega⟩) kk
theorem g_callU (S : gS own R p c cc nL m s args D A) (hI : gI D A σ H) (hS : va_S A s.heap H locs) {x y : MethodName} {owner : String} {bytes : ByteArray} {maxL n idx f L : Nat} {ret : Option FieldType} {ws : List Cond} {v : Option Value} {As : List Value} {a K : Nat}
    (hM : Met l y ws (gRm σ f L) (va_Pc (.ref a :: As) (gU D A σ)) (gQ v D A σ') (gc σ) (gs σ) A) (hk : gk σ a = K) (h1 : 1 ≤ K ∧ K ≤ 6) (cw : va_CU R s args own (gCl K).1 owner idx x y bytes maxL ret ws (gRm σ f L) (gc σ) (gs σ) n)
    (hn : As.length = n) (hsz : ls.size = nL) (hW : (rest.map fun v => v.category).sum ≤ 8) (hdg : decode cc pc = .ok (.invokevirtual idx, 3)) {st : List Value} (hst : st = As.reverse ++ .ref a :: rest)
    (kk : ∀ (H1 : Heap) (locs1 : List Loc) (cells slots : Nat), gI D A σ' H1 → va_S A s.heap H1 locs1 → W p l e R s m args below meth c H1 locs1 cells slots Q (F0 m (pc + 3) ls (v.toList ++ rest))) : W p l e R s m args below meth c H locs cells slots Q (F0 m pc ls st) :=
  g_fin S hI hS (fun cells slots ec es => va_runU (g := F0 m pc ls st) (As := As) (rest := rest) ⟨S.1, S.2.1, S.2.2.1, S.2.2.2.1, S.2.2.2.2.1⟩ hM cw
    ⟨gU.blind, g_str hI S.2.2.2.2.2.1 hk h1, fun U hU hW => ⟨rfl, gU.hand S hI hS hU hW⟩⟩ rfl hn hsz hst (lv_room hW) hdg ⟨by omega, by omega⟩) kk
theorem g_callSU (S : gS own R p c cc nL m s args D A) (hI : gI D A σ H) (hS : va_S A s.heap H locs) {y : MethodName} {bytes : ByteArray} {maxL n idx f L : Nat} {ret : Option FieldType} {ws : List Cond} {v : Option Value} {As : List Value} {a K : Nat}
    (hM : Met l y ws (gRm σ f L) (va_Pc (.ref a :: As) (gU D A σ)) (gQ v D A σ') (gc σ) (gs σ) A) (hk : gk σ a = K) (h1 : 1 ≤ K ∧ K ≤ 6) (hc : (gCl K).1 = own) (cw : va_CS R s args own idx y bytes maxL ret ws (gRm σ f L) (gc σ) (gs σ) n)
    (hn : As.length = n) (hsz : ls.size = nL) (hW : (rest.map fun v => v.category).sum ≤ 8) (hdg : decode cc pc = .ok (.invokespecial idx, 3)) {st : List Value} (hst : st = As.reverse ++ .ref a :: rest)
    (kk : ∀ (H1 : Heap) (locs1 : List Loc) (cells slots : Nat), gI D A σ' H1 → va_S A s.heap H1 locs1 → W p l e R s m args below meth c H1 locs1 cells slots Q (F0 m (pc + 3) ls (v.toList ++ rest))) : W p l e R s m args below meth c H locs cells slots Q (F0 m pc ls st) :=
  g_fin S hI hS (fun cells slots ec es => va_runSU (C := (gCl K).1) (g := F0 m pc ls st) (As := As) (rest := rest) (S.2.2.2.2.2.1.1 K h1.1 h1.2).2 ⟨S.1, S.2.1, S.2.2.1, S.2.2.2.1, S.2.2.2.2.1⟩ hM cw
    ⟨gU.blind, g_str hI S.2.2.2.2.2.1 hk h1, fun U hU hW => ⟨rfl, gU.hand S hI hS hU hW⟩⟩ rfl hn hsz hst (lv_room hW) hdg ⟨by omega, by omega⟩) kk
theorem g_callS (S : gS own R p c cc nL m s args D A) (hI : gI D A σ H) (hS : va_S A s.heap H locs) {y : MethodName} {bytes : ByteArray} {maxL n idx f L : Nat} {ret : Option FieldType} {ws : List Cond} {v : Option Value} {As : List Value}
    (hM : Met l y ws (gRm σ f L) (va_Pc As (gU D A σ)) (gQ v D A σ') (gc σ) (gs σ) A) (cw : CallB R s args own idx y bytes maxL ret ws (gRm σ f L) (gc σ) (gs σ) n ∧ (Cond.static y).before args s = true)
    (hn : As.length = n) (hsz : ls.size = nL) (hW : (rest.map fun v => v.category).sum ≤ 8) (hdg : decode cc pc = .ok (.invokestatic idx, 3)) {st : List Value} (hst : st = As.reverse ++ rest)
    (kk : ∀ (H1 : Heap) (locs1 : List Loc) (cells slots : Nat), gI D A σ' H1 → va_S A s.heap H1 locs1 → W p l e R s m args below meth c H1 locs1 cells slots Q (F0 m (pc + 3) ls (v.toList ++ rest))) : W p l e R s m args below meth c H locs cells slots Q (F0 m pc ls st) :=
  g_fin S hI hS (fun cells slots ec es => va_runS (g := F0 m pc ls st) (As := As) (rest := rest) ⟨S.1, S.2.1, S.2.2.1, S.2.2.2.1, S.2.2.2.2.1⟩ hM cw
    ⟨gU.blind, fun U hU hW => ⟨rfl, gU.hand S hI hS hU hW⟩⟩ rfl hn hsz hst (lv_room hW) hdg ⟨by omega, by omega⟩) kk
theorem g_callI (S : gS own R p c cc nL m s args D A) (hI : gI D A σ H) (hS : va_S A s.heap H locs) {y : MethodName} {bytes : ByteArray} {maxL n idx f L : Nat} {ws : List Cond} {v : Option Value} {As : List Value} {a : Nat}
    (hM : Met l y ws (gRm σ f L) (va_Pc (.ref a :: As) (gU D A σ)) (gQ v D A σ') (gc σ) (gs σ) A) (cw : CallB R s args own idx y bytes maxL none ws (gRm σ f L) (gc σ) (gs σ) n ∧ y.name = "<init>" ∧ (Cond.instanceMethod y).before args s = true)
    (hn : As.length = n) (hsz : ls.size = nL) (hW : (rest.map fun v => v.category).sum ≤ 8) (hdg : decode cc pc = .ok (.invokespecial idx, 3)) {st : List Value} (hst : st = As.reverse ++ .ref a :: rest)
    (kk : ∀ (H1 : Heap) (locs1 : List Loc) (cells slots : Nat), gI D A σ' H1 → va_S A s.heap H1 locs1 → W p l e R s m args below meth c H1 locs1 cells slots Q (F0 m (pc + 3) ls (v.toList ++ rest))) : W p l e R s m args below meth c H locs cells slots Q (F0 m pc ls st) :=
  g_fin S hI hS (fun cells slots ec es => va_runI (g := F0 m pc ls st) (As := As) (rest := rest) ⟨S.1, S.2.1, S.2.2.1, S.2.2.2.1, S.2.2.2.2.1⟩ hM cw
    ⟨gU.blind, fun U hU hW => ⟨rfl, gU.hand S hI hS hU hW⟩⟩ rfl hn hsz hst (lv_room hW) hdg ⟨by omega, by omega⟩) kk
theorem g_callIN (S : gS own R p c cc nL m s args D A) (hI : gI D A σ H) (hS : va_S A s.heap H locs) {y : MethodName} {host : String} {bytes : ByteArray} {maxL n idx f L : Nat} {ws : List Cond} {v : Option Value} {As : List Value} {a : Nat}
    (hM : Met l y ws (gRm σ f L) (va_Pc (.ref a :: As) (gU D A σ)) (gQ v D A σ') (gc σ) (gs σ) A) (cw : va_CN R s args own idx y host bytes maxL none ws (gRm σ f L) (gc σ) (gs σ) n ∧ y.name = "<init>" ∧ (Cond.instanceMethod y).before args s = true)
    (hn : As.length = n) (hsz : ls.size = nL) (hW : (rest.map fun v => v.category).sum ≤ 8) (hdg : decode cc pc = .ok (.invokespecial idx, 3)) {st : List Value} (hst : st = As.reverse ++ .ref a :: rest)
    (kk : ∀ (H1 : Heap) (locs1 : List Loc) (cells slots : Nat), gI D A σ' H1 → va_S A s.heap H1 locs1 → W p l e R s m args below meth c H1 locs1 cells slots Q (F0 m (pc + 3) ls (v.toList ++ rest))) : W p l e R s m args below meth c H locs cells slots Q (F0 m pc ls st) :=
  g_fin S hI hS (fun cells slots ec es => va_runIN (g := F0 m pc ls st) (As := As) (rest := rest) ⟨S.1, S.2.1, S.2.2.1, S.2.2.2.1, S.2.2.2.2.1⟩ hM cw
    ⟨gU.blind, fun U hU hW => ⟨rfl, gU.hand S hI hS hU hW⟩⟩ rfl hn hsz hst (lv_room hW) hdg ⟨by omega, by omega⟩) kk
theorem gS.of {f n : Nat} (h : p.tables.exec = Jvm.exec ∧ c.code = cc ∧ c.maxLocals = nL ∧ s.vm.findClass own = some m.cls ∧ (∀ w ∈ lw_all, w.before args s = true) ∧ gK D s ∧ gZ D A s) (hI : gI D A σ s.heap) : gS own (gRm σ f n) p c cc nL m s args D A := by
  obtain ⟨h1, h2, h3, h4, h5, h6, h7⟩ := h
  obtain ⟨-, -, i3, i4, i5, -⟩ := hI
  refine ⟨h1, h2, h3, h4, h5, h6, h7, ?_, ?_⟩
  · show gc σ + _ = _
    omega
  · show gs σ + _ = _
    omega
theorem va_Zq_or {C n d : String} {U : State} (h : va_Zq C n d A U U.heap) : ∃ r : Option Nat, va_Z C n d (va_rf r) A U U.heap := by
  rcases h with h | ⟨t, h⟩
  · exact ⟨none, h⟩
  · exact ⟨some t, h⟩
theorem gnf_1 : ∀ j, j < (gCl 1).2.2 → (match gTy 1 j with | .float => false | .double => false | _ => true) = true := by decide
theorem gnf_2 : ∀ j, j < (gCl 2).2.2 → (match gTy 2 j with | .float => false | .double => false | _ => true) = true := by decide
theorem gnf_3 : ∀ j, j < (gCl 3).2.2 → (match gTy 3 j with | .float => false | .double => false | _ => true) = true := by decide
theorem gnf_4 : ∀ j, j < (gCl 4).2.2 → (match gTy 4 j with | .float => false | .double => false | _ => true) = true := by decide
theorem gnf_5 : ∀ j, j < (gCl 5).2.2 → (match gTy 5 j with | .float => false | .double => false | _ => true) = true := by decide
theorem gnf_6 : ∀ j, j < (gCl 6).2.2 → (match gTy 6 j with | .float => false | .double => false | _ => true) = true := by decide
theorem lw_U {own : String} {idx : Nat} {C owner : String} {x y : MethodName} {b : ByteArray} {L : Nat} {r : Option FieldType} (h1 : Cond.methodLink own idx x ∈ lw_all) (h2 : Cond.sameMethod x.cls owner x.name x.desc ∈ lw_all) (h3 : Cond.selects C x y ∈ lw_all) (h4 : Cond.instanceMethod y ∈ lw_all) (h5 : Cond.initialized y.cls ∈ lw_all) (h6 : Cond.code y b L r ∈ lw_all) : GoodIn lw_all (va_wsU own idx C owner x y (ws_ y b L r)) := by
  refine lw_app ?_ (lw_meth h6)
  intro w hw
  simp only [List.mem_cons, List.not_mem_nil, or_false] at hw
  rcases hw with e | e | e | e | e <;> rw [e] <;> assumption
theorem lw_O {own : String} {idx : Nat} {C owner : String} {x y : MethodName} {b : ByteArray} {L : Nat} {r : Option FieldType} (h1 : Cond.methodLink own idx x ∈ lw_all) (h2 : Cond.sameMethod x.cls owner x.name x.desc ∈ lw_all) (h0 : Cond.instanceMethod ⟨owner, x.name, x.desc⟩ ∈ lw_all) (h3 : Cond.selects C x y ∈ lw_all) (h4 : Cond.instanceMethod y ∈ lw_all) (h5 : Cond.initialized y.cls ∈ lw_all) (h6 : Cond.code y b L r ∈ lw_all) : GoodIn lw_all (va_wsO own idx C owner x y (ws_ y b L r)) := by
  refine lw_app ?_ (lw_meth h6)
  intro w hw
  simp only [List.mem_cons, List.not_mem_nil, or_false] at hw
  rcases hw with e | e | e | e | e | e <;> rw [e] <;> assumption
theorem lw_SU {own : String} {idx : Nat} {y : MethodName} {b : ByteArray} {L : Nat} {r : Option FieldType} (h1 : Cond.methodLink own idx y ∈ lw_all) (h2 : Cond.sameMethod y.cls y.cls y.name y.desc ∈ lw_all) (h3 : Cond.superclass own y.cls ∈ lw_all) (h4 : Cond.instanceMethod y ∈ lw_all) (h5 : Cond.initialized y.cls ∈ lw_all) (h6 : Cond.code y b L r ∈ lw_all) : GoodIn lw_all (va_wsSU own idx y (ws_ y b L r)) := by
  refine lw_app ?_ (lw_meth h6)
  intro w hw
  simp only [List.mem_cons, List.not_mem_nil, or_false] at hw
  rcases hw with e | e | e | e | e <;> rw [e] <;> assumption
theorem hW_len {rest : List Value} (h : rest.length ≤ 4) : (rest.map fun v => v.category).sum ≤ 8 := by
  have h2 : ∀ r : List Value, (r.map fun v => v.category).sum ≤ 2 * r.length := by
    intro r
    induction r with
    | nil => exact Nat.le_refl _
    | cons v r ih =>
      have hv : v.category ≤ 2 := by cases v <;> exact Nat.le_of_ble_eq_true rfl
      simp only [List.map_cons, List.sum_cons, List.length_cons]
      omega
  have := h2 rest
  omega
theorem g_min (S : gS own R p c cc nL m s args D A) (hI : gI D A σ H) (hS : va_S A s.heap H locs) (hsz : ls.size = nL) {idx : Nat} (hlink : (Cond.methodLink own idx Lib.Math.min.name).before args s = true) (hstat : (Cond.static Lib.Math.min.name).before args s = true) (hini : (Cond.initialized "java/lang/Math").before args s = true) (hcode : (Cond.code Lib.Math.min.name Lib.Math.min.code 2 (some .int)).before args s = true) (hframes : 1 ≤ R.frames) (hlocals : (rest.map fun v => v.category).sum + 13 ≤ R.locals) {x y : Int32} (hdg : decode cc pc = .ok (.invokestatic idx, 3))
    (kk : ∀ cells slots : Nat, W p l e R s m args below meth c H locs cells slots Q (F0 m (pc + 3) ls (.int (if y < x then y else x) :: rest))) : W p l e R s m args below meth c H locs cells slots Q (F0 m pc ls (.int y :: .int x :: rest)) :=
  W.grown fun hz => g_nar S hI hS (fun cells slots ec es => va_mmin S.1 S.2.1 (by rw [S.2.2.1]; exact hsz.symm) S.2.2.2.1 hlink hstat hini hcode hframes hlocals (by omega) (by omega) hdg (kk _ _)) hz
theorem g_max (S : gS own R p c cc nL m s args D A) (hI : gI D A σ H) (hS : va_S A s.heap H locs) (hsz : ls.size = nL) {idx : Nat} (hlink : (Cond.methodLink own idx Lib.Math.max.name).before args s = true) (hstat : (Cond.static Lib.Math.max.name).before args s = true) (hini : (Cond.initialized "java/lang/Math").before args s = true) (hcode : (Cond.code Lib.Math.max.name Lib.Math.max.code 2 (some .int)).before args s = true) (hframes : 1 ≤ R.frames) (hlocals : (rest.map fun v => v.category).sum + 13 ≤ R.locals) {x y : Int32} (hdg : decode cc pc = .ok (.invokestatic idx, 3))
    (kk : ∀ cells slots : Nat, W p l e R s m args below meth c H locs cells slots Q (F0 m (pc + 3) ls (.int (if x < y then y else x) :: rest))) : W p l e R s m args below meth c H locs cells slots Q (F0 m pc ls (.int y :: .int x :: rest)) :=
  W.grown fun hz => g_nar S hI hS (fun cells slots ec es => va_mmax S.1 S.2.1 (by rw [S.2.2.1]; exact hsz.symm) S.2.2.2.1 hlink hstat hini hcode hframes hlocals (by omega) (by omega) hdg (kk _ _)) hz
/-! returns: the books are closed at the room that was given -/
def gE (own : String) (R : Room) (p : Program) (c : Code) (cc : ByteArray) (nL : Nat) (m : MethodId) (s : State) (args : Array Value) (D : gD) (A : Nat → Prop) (meth : Method) (rt : Option FieldType) : Prop := gS own R p c cc nL m s args D A ∧ meth.sig.returnType = rt ∧ meth.locks = false
theorem g_end (S : gS own R p c cc nL m s args D A) (hI : gI D A σ H) (hS : va_S A s.heap H locs) {g : JFrame} (kk : W p l e R s m args below meth c H locs R.cells R.slots Q g) : W p l e R s m args below meth c H locs cells slots Q g :=
  W.grown fun hz => g_nar S hI hS (fun cells slots ec es => W.widen (by omega) (by omega) kk) hz
theorem g_iret (S : gS own R p c cc nL m s args D A) (hI : gI D A σ H) (hS : va_S A s.heap H locs) (hr : meth.sig.returnType = some .int) (hlocks : meth.locks = false) {v : Int32} (hdg : decode cc pc = .ok (.ireturn, 1)) : W p l e R s m args below meth c H locs cells slots (MQ below (gQ (some (.int v)) D A σ) args s R.cells R.slots A) (F0 m pc ls [.int v]) :=
  g_end S hI hS (W.iret S.1 S.2.1 hr (fun t ht _ => ⟨rfl, by rw [ht]; exact hI, hS.F ht⟩) hS.2.2 hdg)
theorem g_zret (S : gS own R p c cc nL m s args D A) (hI : gI D A σ H) (hS : va_S A s.heap H locs) {ty : FieldType} (hr : meth.sig.returnType = some ty) (hlocks : meth.locks = false) {v : Int32} (hn : narrow ty (.int v) = .int v) (hdg : decode cc pc = .ok (.ireturn, 1)) : W p l e R s m args below meth c H locs cells slots (MQ below (gQ (some (.int v)) D A σ) args s R.cells R.slots A) (F0 m pc ls [.int v]) :=
  g_end S hI hS (W.zret S.1 S.2.1 hr hn (fun t ht _ => ⟨rfl, by rw [ht]; exact hI, hS.F ht⟩) hS.2.2 hdg)
theorem g_lret (S : gS own R p c cc nL m s args D A) (hI : gI D A σ H) (hS : va_S A s.heap H locs) (hr : meth.sig.returnType = some .long) (hlocks : meth.locks = false) {v : Int64} (hdg : decode cc pc = .ok (.lreturn, 1)) : W p l e R s m args below meth c H locs cells slots (MQ below (gQ (some (.long v)) D A σ) args s R.cells R.slots A) (F0 m pc ls [.long v]) :=
  g_end S hI hS (W.lret S.1 S.2.1 hr (fun t ht _ => ⟨rfl, by rw [ht]; exact hI, hS.F ht⟩) hS.2.2 hdg)
theorem g_vret (S : gS own R p c cc nL m s args D A) (hI : gI D A σ H) (hS : va_S A s.heap H locs) (hr : meth.sig.returnType = none) (hlocks : meth.locks = false) (hdg : decode cc pc = .ok (.return_, 1)) : W p l e R s m args below meth c H locs cells slots (MQ below (gQ none D A σ) args s R.cells R.slots A) (F0 m pc ls []) :=
  g_end S hI hS (W.vret S.1 S.2.1 hr (fun t ht _ => ⟨rfl, by rw [ht]; exact hI, hS.F ht⟩) hS.2.2 hdg)
theorem g_aret (S : gS own R p c cc nL m s args D A) (hI : gI D A σ H) (hS : va_S A s.heap H locs) {rt : FieldType} (hr : meth.sig.returnType = some rt) (hrt : (∃ n, rt = .object n) ∨ ∃ t, rt = .array t) (hlocks : meth.locks = false) {v : Option Nat} (hdg : decode cc pc = .ok (.areturn, 1)) : W p l e R s m args below meth c H locs cells slots (MQ below (gQ (some (va_rf v)) D A σ) args s R.cells R.slots A) (F0 m pc ls [va_rf v]) :=
  g_end S hI hS (W.aret S.1 S.2.1 hr hrt (by cases v with | none => exact Or.inl rfl | some a => exact Or.inr ⟨a, rfl⟩) (fun t ht _ => ⟨rfl, by rw [ht]; exact hI, hS.F ht⟩) hS.2.2 hdg)
/-! arraycopy of bytes; clone of a byte array -/
theorem g_copy (S : gS own R p c cc nL m s args D A) (hI : gI D A σ H) (hS : va_S A s.heap H locs) (hsz : ls.size = nL) {r0 r : Option Nat} {a0 a idx : Nat} (hr0 : r0 = some a0) (hr : r = some a) (hk0 : gk σ a0 = 101) (hk : gk σ a = 101) {sp dp n : Int32}
    (hy : (0 ≤ sp ∧ 0 ≤ dp ∧ 0 ≤ n) ∧ (sp.toNatClampNeg + n.toNatClampNeg ≤ gn σ a0 ∧ dp.toNatClampNeg + n.toNatClampNeg ≤ gn σ a) ∧ gb σ ≤ a0 ∧ gb σ ≤ a) (hq : Cond.methodLink own idx arraycopyName ∈ lw_all) (hframes : 1 ≤ R.frames) (hlocals : (rest.map fun v => v.category).sum + (nativeFrameWords "java/lang/System" "arraycopy" 5 + 11) ≤ R.locals) (hdg : decode cc pc = .ok (.invokestatic idx, 3))
    (kk : ∀ (H1 : Heap) (locs1 : List Loc), gI D A (gcpy σ a0 a sp.toNatClampNeg dp.toNatClampNeg n.toNatClampNeg) H1 → va_S A s.heap H1 locs1 → W p l e R s m args below meth c H1 locs1 cells slots Q (F0 m (pc + 3) ls rest)) : W p l e R s m args below meth c H locs cells slots Q (F0 m pc ls (.int n :: .int dp :: va_rf r :: .int sp :: va_rf r0 :: rest)) := by
  subst hr0 hr
  obtain ⟨⟨g1, g2, g3⟩, ⟨h4, h5⟩, w0, w1⟩ := hy
  have ng : ∀ z : Int32, 0 ≤ z → ¬ z < 0 := fun z h q => by simp only [Int32.lt_iff_toInt_lt, Int32.le_iff_toInt_le] at h q; omega
  have h1 := ng sp g1
  have h2 := ng dp g2
  have h3 := ng n g3
  have nn : ∀ z : Int32, ¬ z < 0 → z.toInt = ((z.toNatClampNeg : Nat) : Int) := by
    intro z hz
    have hz0 : (0 : Int) ≤ z.toInt := by
      have := Int32.not_lt.mp hz
      simpa using Int32.le_iff_toInt_le.mp this
    show z.toInt = ((z.toInt.toNat : Nat) : Int)
    omega
  obtain ⟨hc0, hA0, hs0, hfit⟩ := gbytes hI hk0 w0
  obtain ⟨hc1, hA1, hs1, hfit1⟩ := gbytes hI hk w1
  obtain ⟨hx, hb, hml, hown, hts, hK, -⟩ := S
  obtain ⟨kA, comp, k1, k2, -⟩ := hK.2.1 101 (Or.inr (Or.inl rfl))
  intro T hT X
  obtain ⟨vm', X', step⟩ := X.arraycopy hx hown (hts _ hq) (hts _ q382) (hts _ q381) (hts _ q117) (src := a0) (dst := a) (cs := arrV (D.2.2.1 101) (gn σ a0) (fun j => .int (gi σ a0 j))) (cd := arrV (D.2.2.1 101) (gn σ a) (fun j => .int (gi σ a j))) (srcPos := sp) (destPos := dp) (n := n) (by rw [hT]; exact hc0) (by rw [hT]; exact hc1)
    (fun _ h => by cases h) (fun _ h => by cases h) (fun h => by cases h) (fun h => by cases h) k1 k1 k2 k2 (by simp [refKind, gAty]) h1 h2 h3
    (by rw [nn sp h1, nn n h3, arrV_size]; omega)
    (by rw [nn dp h2, nn n h3, arrV_size]; omega)
    (fun vm₁ _ i hi => by
      have e : (arrV (D.2.2.1 101) (gn σ a0) (fun j => Value.int (gi σ a0 j))).slots.getD (sp.toNatClampNeg + i) .null = .int (gi σ a0 (sp.toNatClampNeg + i)) := by
        rw [Array.getD_eq_getD_getElem?, arrV_read _ _ (by omega)]
        rfl
      refine ⟨?_, ?_⟩
      · rw [e]
        exact hfit _ (by omega)
      · rw [e]
        exact trivial)
    (g := F0 m pc ls (.int n :: .int dp :: .ref a :: .int sp :: .ref a0 :: rest)) rfl (by rw [hml]; exact hsz) (rest := rest) rfl (by rw [hb]; exact hdg) hframes (by show 2 * 0 + _ + _ ≤ _; omega)
  have e1 : copied (arrV (D.2.2.1 101) (gn σ a0) (fun j => Value.int (gi σ a0 j))) (arrV (D.2.2.1 101) (gn σ a) (fun j => Value.int (gi σ a j))) sp dp n = arrV (D.2.2.1 101) (gn σ a) (fun j => Value.int (va_cpy (gi σ a0) (gi σ a) sp.toNatClampNeg dp.toNatClampNeg n.toNatClampNeg j)) := va_copied (fun z => .int z) _ _ _ _ h4
  rw [e1] at X' step
  have hl : a < H.size := (Array.getElem?_eq_some_iff.mp hc1).1
  generalize hc2 : arrV (D.2.2.1 101) (gn σ a) (fun j => Value.int (va_cpy (gi σ a0) (gi σ a) sp.toNatClampNeg dp.toNatClampNeg n.toNatClampNeg j)) = cell2 at X' step
  have hheap : ((T.setVm vm').setCell a cell2).heap = H.setIfInBounds a cell2 := by rw [← hT]; rfl
  have oq : ∀ q : Nat, q ≠ a → (H.setIfInBounds a cell2)[q]? = H[q]? := fun q hq => by simp [Array.getElem?_setIfInBounds, Ne.symm hq]
  have e2 : (H.setIfInBounds a cell2)[a]? = some cell2 := by simp [Array.getElem?_setIfInBounds, hl]
  have hI1 : gI D A (gcpy σ a0 a sp.toNatClampNeg dp.toNatClampNeg n.toNatClampNeg) (H.setIfInBounds a cell2) := by
    refine hI.upd (a := a) rfl rfl rfl rfl rfl rfl rfl (fun b hb j => ⟨if_neg hb, rfl, rfl⟩) hc1 e2 (by rw [← hc2, arrV_size, arrV_size]) (by simp) oq ⟨cell2, e2, (by rw [← hc2]; exact fun h => (by cases h)), (fun q h => by rw [← hc2] at h; cases h), (fun _ => by rw [← hc2]; exact ⟨rfl, rfl, rfl⟩), Or.inr ⟨Or.inr (Or.inl hk), fun _ => by rw [← hc2]; show D.2.2.1 101 = D.2.2.1 (gk σ a); rw [hk], fun _ => by rw [← hc2]; exact hK.2.2.2, (by rw [← hc2, arrV_size]; exact ⟨Nat.le_refl _, rfl, fun _ => rfl⟩), hs1, fun j hj => ?_, fun _ j hj => ?_⟩⟩
    · have hj : j < gn σ a := hj
      rw [← hc2, arrV_read _ _ hj]
      show _ = some (gval (gtOf (gAty (gk σ a))) _ a j)
      rw [hk]
      show _ = some (Value.int (if a = a then _ else _))
      rw [if_pos rfl]
    · show vp_nar .byte (if a = a then _ else _) = (if a = a then _ else _)
      rw [if_pos rfl]
      obtain ⟨_, _, _, _, _, _, _, _, _, _, _, y7⟩ := garr hI hk (Or.inr (Or.inl rfl))
      obtain ⟨_, _, _, _, _, _, _, _, _, _, _, y70⟩ := garr hI hk0 (Or.inr (Or.inl rfl))
      unfold va_cpy
      split
      · rename_i hq
        exact y70 hk0 _ (by omega)
      · exact y7 hk j hj
  obtain ⟨t, a1, b1⟩ := kk _ _ hI1 ⟨by simp; exact hS.1, fun q g1 g2 => by
      rw [oq q (fun e => g2 (by rw [e]; exact hA1))]
      exact hS.2.1 q g1 g2, fun q hq => by
      rcases List.mem_append.mp hq with h | h
      · exact hS.2.2 q h
      · obtain ⟨z, -, hz⟩ := List.mem_map.mp h
        rw [← hz]
        exact hA1⟩ _ hheap X'
  exact ⟨t, step t a1, b1⟩
theorem gcln_ne {a b : Nat} (h : b ≠ gx σ) : gk (gcln σ a) b = gk σ b ∧ gn (gcln σ a) b = gn σ b ∧ ∀ j, gi (gcln σ a) b j = gi σ b j ∧ gl (gcln σ a) b j = gl σ b j ∧ gr (gcln σ a) b j = gr σ b j :=
  ⟨if_neg h, if_neg h, fun _ => ⟨if_neg h, if_neg h, if_neg h⟩⟩
theorem gcln_eq {a : Nat} : gk (gcln σ a) (gx σ) = 101 ∧ gn (gcln σ a) (gx σ) = gn σ a ∧ ∀ j, gi (gcln σ a) (gx σ) j = gi σ a j :=
  ⟨if_pos rfl, if_pos rfl, fun _ => if_pos rfl⟩
theorem g_clone (S : gS own R p c cc nL m s args D A) (hI : gI D A σ H) (hS : va_S A s.heap H locs) (hsz : ls.size = nL) {r : Option Nat} {a idx : Nat} (hr : r = some a) (hk : gk σ a = 101) (hw : gb σ ≤ a) (hroom : 1 ≤ gc σ ∧ gn σ a ≤ gs σ) (hq : Cond.methodLink own idx ⟨"[B", "clone", "()Ljava/lang/Object;"⟩ ∈ lw_all) (hframes : 1 ≤ R.frames) (hlocals : (rest.map fun v => v.category).sum + 14 ≤ R.locals) (hdg : decode cc pc = .ok (.invokevirtual idx, 3))
    (kk : ∀ (H1 : Heap) (cells slots : Nat), gI D A (gcln σ a) H1 → va_S A s.heap H1 locs → W p l e R s m args below meth c H1 locs cells slots Q (F0 m (pc + 3) ls (.ref (gx σ) :: rest))) : W p l e R s m args below meth c H locs cells slots Q (F0 m pc ls (va_rf r :: rest)) := by
  subst hr
  refine W.grown fun hz => g_nar S hI hS (fun cells slots ec es => ?_) hz
  obtain ⟨hc1, hA1, hs1, hfit1⟩ := gbytes hI hk hw
  obtain ⟨hx, hb, hml, hown, hts, hK, hZ, -⟩ := S
  obtain ⟨kS, compS, hkS, hkindS, hnm, -⟩ := hK.2.1 101 (Or.inr (Or.inl rfl))
  obtain ⟨c0, t0', f1, f2, f3⟩ := Cond.castable_spec (va_Nw.use (A := args) rfl hZ.2.2.2.2.2.2.2.2.2.1)
  have f1' : s.vm.findClass "[B" = some (D.2.2.1 101) := hnm
  cases f1'.symm.trans f1
  intro T hT X
  have hcellT : T.heap[a]? = some (arrV (D.2.2.1 101) (gn σ a) (fun j => .int (gi σ a j))) := by rw [hT]; exact hc1
  obtain ⟨kA, hkA, heA⟩ := X.warmed.alike.2.2 _ _ hkS
  have hkind : kA.kind = .array compS .byte := by rw [heA]; exact hkindS
  obtain ⟨vm', X', st⟩ := X.cloneArray hx hown (hts _ hq) (hts _ q373) (hts _ q374) (hts _ q375) (hts _ q376) (a := a) (cell := arrV (D.2.2.1 101) (gn σ a) (fun j => .int (gi σ a j))) hcellT (fun k h => by cases h) (fun h => by cases h) f1' f2 f3
    (fun i v hv => by
      have hin : i < gn σ a := by
        have := (Array.getElem?_eq_some_iff.mp hv).1
        rw [arrV_size] at this
        exact this
      rw [arrV_read _ _ hin] at hv
      cases hv
      show State.fitsSlot _ (D.2.2.1 101) _ _ _ = true
      simpa [State.fitsSlot, State.slotType?, hkA, hkind] using hfit1 i hin)
    (g := F0 m pc ls (.ref a :: rest)) rfl (by rw [hml]; exact hsz) rfl (by rw [hb]; exact hdg) hframes (by show 2 * 0 + _ + 14 ≤ _; omega) (by omega) (by rw [arrV_size]; omega) (hloader := Vm.clonesLoader_of_array hkS hkindS)
  rw [arrV_size] at X'
  have hcellE : ({ cls := (arrV (D.2.2.1 101) (gn σ a) (fun j => Value.int (gi σ a j))).cls, slots := (arrV (D.2.2.1 101) (gn σ a) (fun j => Value.int (gi σ a j))).slots } : Cell) = arrV (D.2.2.1 101) (gn σ a) (fun j => Value.int (gi σ a j)) := rfl
  rw [hcellE] at X' st
  generalize hc2 : arrV (D.2.2.1 101) (gn σ a) (fun j => Value.int (gi σ a j)) = cell at X' st hc1
  generalize hH1 : H.push cell = H1
  have z1 : H1.size = H.size + 1 := by rw [← hH1, Array.size_push]
  have e1 : H1[H.size]? = some cell := by rw [← hH1, Array.getElem?_push_size]
  have o1 : ∀ q : Nat, q < H.size → H1[q]? = H[q]? := fun q hq => by rw [← hH1, Array.getElem?_push, if_neg (Nat.ne_of_lt hq)]
  have e2 : H1[gx σ]? = some cell := by rw [← hI.2.2.1]; exact e1
  have hI1 : gI D A (gcln σ a) H1 := by
    refine hI.push (w := gn σ a) hroom (fun b hb => gcln_ne hb) rfl rfl rfl rfl rfl e1 (by rw [← hc2, arrV_size]) z1 o1 ⟨cell, e2, (by rw [← hc2]; exact fun h => (by cases h)), (fun q h => by rw [← hc2] at h; cases h), (fun _ => by rw [← hc2]; exact ⟨rfl, rfl, rfl⟩), Or.inr ⟨by rw [gcln_eq.1]; exact Or.inr (Or.inl rfl), fun _ => by rw [gcln_eq.1, ← hc2]; rfl, fun _ => by rw [← hc2]; exact hK.2.2.2, (by rw [gcln_eq.2.1, ← hc2, arrV_size]; exact ⟨Nat.le_refl _, rfl, fun _ => rfl⟩), by rw [gcln_eq.2.1]; exact hs1, fun j hj => ?_, fun _ j hj => ?_⟩⟩
    · rw [gcln_eq.2.1] at hj
      rw [gcln_eq.1, ← hc2, arrV_read _ _ hj]
      show _ = some (Value.int (gi (gcln σ a) (gx σ) j))
      rw [gcln_eq.2.2]
    · rw [gcln_eq.2.1] at hj
      rw [gcln_eq.2.2]
      obtain ⟨_, _, _, _, _, _, _, _, _, _, _, y7⟩ := garr hI hk (Or.inr (Or.inl rfl))
      exact y7 hk j hj
  obtain ⟨t, b1, b2⟩ := kk H1 _ _ hI1 (hS.grow (by omega) o1) ((T.setVm vm').pushCell cell) (by rw [← hH1, ← hT]; rfl) X'
  refine ⟨t, st t ?_, b2⟩
  rw [hT, hI.2.2.1]
  exact b1
end GKit2
