/-! methods: what they are to be; the component's helpers -/
section Mth
set_option maxRecDepth 100000
/-- flags that an abstract method may not have -/
def absB (P : PD) (f : Nat) : Prop := ¬ (nI f &&& (1024 : Int32)) = 0 ∧ (¬ (nI f &&& (314 : Int32)) = 0 ∨ (46 ≤ mjP P ∧ mjP P ≤ 60 ∧ ¬ (nI f &&& (2048 : Int32)) = 0))
def mflP (P : PD) (face init : Prop) (f : Nat) : Prop := (init ∧ ¬ mto f ∧ (nI f &&& (1400 : Int32)) = 0) ∨ (¬ init ∧ ¬ absB P f ∧ ((¬ face ∧ ¬ mto f) ∨ (face ∧ (nI f &&& (308 : Int32)) = 0 ∧ ((mjP P < 52 ∧ f.testBit 0 = true ∧ f.testBit 10 = true ∧ (nI f &&& (8 : Int32)) = 0) ∨ (52 ≤ mjP P ∧ ¬ (f.testBit 0 = true ↔ f.testBit 1 = true))))))
/-- places of a method's arguments, this among them -/
noncomputable def npS (t : List Nat) (f : Nat) : Nat := (placesS t).getD 0 + (if (nI f &&& (8 : Int32)) = 0 then 1 else 0)
def mnP (P : PD) (face : Prop) (p : Nat) : Prop := tgP P (U2 P.1 (p + 2)) = 1 ∧ (PlainS (n2 P p) 0 (n2 P p).length True ∨ (n2 P p = lT 10 ∧ ¬ face) ∨ n2 P p = lT 11)
def mdP (P : PD) (p : Nat) : Prop := tgP P (U2 P.1 (p + 4)) = 1 ∧ placesS (n4 P p) ≠ none ∧ (n2 P p = lT 10 → ch (n4 P p) ((n4 P p).length - 1) = 86) ∧ ¬ (placesS (n4 P p) = some 255 ∧ (nI (U2 P.1 p) &&& (8 : Int32)) = 0)
/-- a method that has no code -/
def bare (P : PD) (p : Nat) : Prop := ¬ n2 P p = lT 11 ∧ ¬ (nI (U2 P.1 p) &&& (1280 : Int32)) = 0
noncomputable def mtS (P : PD) (face fin : Prop) : Nat → Nat → Nat → (Nat → MR) → FE (Nat → MR)
  | 0, _, _, M => .ok M
  | d + 1, k, p, M => ci (mnP P face p) (ci (n2 P p = lT 11 ∨ mflP P face (n2 P p = lT 10) (U2 P.1 p)) (ci (mdP P p) (ci (∀ j, 0 ≤ j → j < k → ¬ (n2 P (M j).1 = n2 P p ∧ n4 P (M j).1 = n4 P p)) (eb (attsS P 1 fin (U2 P.1 p) (n4 P p) (npS (n4 P p) (U2 P.1 p)) (U2 P.1 (p + 6)) (p + 8) 0 (fun _ => 0)) fun a => ci (¬ a 3 = 0 ↔ bare P p) (.error (27, p)) (eb (attrS P.1 P.2.1 (p + 6)) fun q => mtS P face fin d (k + 1) q (uM M k (p, a)))) (.error (26, p))) (.error (25, p + 4))) (.error (23, p))) (.error (24, p + 2))
variable {P : PD} {x0 c lo hd fa fu : Nat} {N : Nat → Prop} {σ : GS}
theorem a314 {f : Nat} (hf : f < 65536) (h : (nI f &&& (314 : Int32)) = 0) : (nI f &&& (2 : Int32)) = 0 := by
  have h1 : f &&& 314 < 65536 := Nat.lt_of_le_of_lt Nat.and_le_left hf
  rw [show (314 : Int32) = nI 314 from rfl, nI_andN, show (0 : Int32) = nI 0 from rfl, nI_eq (by omega) (by omega)] at h
  have h2 := congrArg (fun x => Nat.testBit x 1) h
  simp only [Nat.testBit_and, Nat.zero_testBit] at h2
  have h3 : Nat.testBit 314 1 = true := by decide
  rw [h3, Bool.and_true] at h2
  exact (nI0b (i := 1) hf (by omega)).mpr (by rw [h2]; decide)
theorem x_isInit_ok {m s : Nat} {t : List Nat} (hL : xLi N σ) (hfu : 131072 < fu) (hm : gk σ m = 4) (r1 : gr σ m 1 = some s) (hs : sS t s σ) : x_X5_isInit fu σ m = some (bi (t = lT 10)) := by
  unfold x_X5_isInit x_X5_isInit_0
  rw [ckT_ok hm, r1, ckK_ok hs.1, x_equals_ok hs (hL 15 (by omega)).1 hfu, Option.bind_some, ckN_bi, show xl 15 = lT 10 from rfl]
theorem x_flags_ok {m s f fl : Nat} {t : List Nat} (h : xPc P c lo N σ) (hL : xLi N σ) (hfu : 131072 < fu) (hm : gk σ m = 4) (h5 : gi σ m 5 = nI f) (hf : f < 65536) (r1 : gr σ m 1 = some s) (hs : sS t s σ) (h0 : gi σ c 0 = nI fl) : x_areMethodFlags fu σ c m = some (bi (t = lT 11 ∨ mflP P (¬ (nI fl &&& (512 : Int32)) = 0) (t = lT 10) f)) := by
  have hmj := mjP_lt P
  have b0 : (nI f &&& (1 : Int32)) = 0 ↔ ¬ f.testBit 0 = true := nI0b (i := 0) hf (by omega)
  have b1 : (nI f &&& (2 : Int32)) = 0 ↔ ¬ f.testBit 1 = true := nI0b (i := 1) hf (by omega)
  have b10 : (nI f &&& (1024 : Int32)) = 0 ↔ ¬ f.testBit 10 = true := nI0b (i := 10) hf (by omega)
  have b1025 : (nI f &&& (1025 : Int32)) = (1025 : Int32) ↔ f.testBit 0 = true ∧ f.testBit 10 = true := nI2b (i := 0) (j := 10) hf (by omega) (by omega)
  unfold x_areMethodFlags x_areMethodFlags_0 x_areMethodFlags_46
  rw [ckT_ok hm, nx_eq, h5, r1, ckK_ok hs.1, x_equals_ok hs (hL 14 (by omega)).1 hfu, Option.bind_some, show xl 14 = lT 11 from rfl, x_isInit_ok hL hfu hm r1 hs, Option.bind_some, x_more_ok hf, Option.bind_some, ckT_ok h.1.1, h.1.2.1]
  by_cases q1 : t = lT 11
  · rw [ib_t q1, bi_t (Or.inl q1)]
  rw [ib_f q1]
  by_cases q2 : t = lT 10
  · rw [ib_t q2]
    by_cases q3 : mto f
    · rw [ib_t q3, bi_f (fun w => w.elim q1 (fun w => w.elim (fun w => w.2.1 q3) (fun w => w.1 q2)))]
    rw [ib_f q3]
    by_cases q4 : (nI f &&& (1400 : Int32)) = 0
    · rw [if_pos q4, bi_t (show t = lT 11 ∨ mflP P (¬ (nI fl &&& (512 : Int32)) = 0) (t = lT 10) f from Or.inr (Or.inl ⟨q2, q3, q4⟩))]
    · rw [if_neg q4, bi_f (fun w => w.elim q1 (fun w => w.elim (fun w => q4 w.2.2) (fun w => w.1 q2)))]
  rw [ib_f q2]
  have key : ∀ A : Prop, (absB P f ↔ ¬ A) → x_areMethodFlags_105 fu σ c (nI f) (bi A) = some (bi (t = lT 11 ∨ mflP P (¬ (nI fl &&& (512 : Int32)) = 0) (t = lT 10) f)) := by
    intro A hA
    unfold x_areMethodFlags_105 x_areMethodFlags_130 x_areMethodFlags_184 x_areMethodFlags_199 x_areMethodFlags_210
    rw [ckT_ok h.1.1, x_X3_isFace_ok h.1.1 h0, Option.bind_some, x_more_ok hf, Option.bind_some, h.1.2.1]
    have no1 : ∀ {X : Prop}, (¬ t = lT 10 ∧ ¬ absB P f ∧ X → False) → ((t = lT 10 ∧ ¬ mto f ∧ (nI f &&& (1400 : Int32)) = 0) → False) := fun _ w => q2 w.1
    by_cases qf : ¬ (nI fl &&& (512 : Int32)) = 0
    case neg =>
      rw [ib_f qf]
      by_cases q3 : mto f
      · rw [ib_t q3, bi_f (fun w => w.elim q1 (fun w => w.elim (fun w => q2 w.1) (fun w => w.2.2.elim (fun w => w.2 q3) (fun w => qf w.1))))]
      rw [ib_f q3]
      by_cases qA : A
      · rw [ib_t qA, bi_t (show t = lT 11 ∨ mflP P (¬ (nI fl &&& (512 : Int32)) = 0) (t = lT 10) f from Or.inr (Or.inr ⟨q2, fun w => hA.mp w qA, Or.inl ⟨qf, q3⟩⟩))]
      · rw [ib_f qA, bi_f (fun w => w.elim q1 (fun w => w.elim (fun w => q2 w.1) (fun w => w.2.1 (hA.mpr qA))))]
    rw [ib_t qf]
    by_cases q308 : (nI f &&& (308 : Int32)) = 0
    case neg => rw [if_neg q308, bi_f (fun w => w.elim q1 (fun w => w.elim (fun w => q2 w.1) (fun w => w.2.2.elim (fun w => w.1 qf) (fun w => q308 w.2.1))))]
    rw [if_pos q308]
    by_cases qA : A
    case neg => rw [ib_f qA, bi_f (fun w => w.elim q1 (fun w => w.elim (fun w => q2 w.1) (fun w => w.2.1 (hA.mpr qA))))]
    have hna : ¬ absB P f := fun w => hA.mp w qA
    rw [ib_t qA]
    have fin : ∀ {X : Prop} {v : Int32}, (v = bi X) → (X ↔ ((mjP P < 52 ∧ f.testBit 0 = true ∧ f.testBit 10 = true ∧ (nI f &&& (8 : Int32)) = 0) ∨ (52 ≤ mjP P ∧ ¬ (f.testBit 0 = true ↔ f.testBit 1 = true)))) → some v = some (bi (t = lT 11 ∨ mflP P (¬ (nI fl &&& (512 : Int32)) = 0) (t = lT 10) f)) := by
      intro X v hv hX
      rw [hv]
      exact congrArg some (bi_iff ⟨fun w => Or.inr (Or.inr ⟨q2, hna, Or.inr ⟨qf, q308, hX.mp w⟩⟩), fun w => hX.mpr (w.elim (fun w => absurd w q1) (fun w => w.elim (fun w => absurd w.1 q2) (fun w => w.2.2.elim (fun w => absurd qf w.1) (fun w => w.2.2))))⟩)
    by_cases m52 : 52 ≤ mjP P
    · rw [if_pos (show (52 : Int32) ≤ nI (mjP P) from nI_le (a := 52) m52 (by omega))]
      by_cases p0 : f.testBit 0 = true <;> by_cases p1 : f.testBit 1 = true
      · rw [if_neg (fun w => b0.mp w p0), if_neg (fun w => b1.mp w p1), if_pos rfl]
        exact fin (X := False) (bi_f id).symm ⟨fun w => w.elim, fun w => w.elim (fun w => by omega) (fun w => w.2 ⟨fun _ => p1, fun _ => p0⟩)⟩
      · rw [if_neg (fun w => b0.mp w p0), if_pos (b1.mpr p1), if_neg (by decide)]
        exact fin (X := True) (bi_t trivial).symm ⟨fun _ => Or.inr ⟨m52, fun w => p1 (w.mp p0)⟩, fun _ => trivial⟩
      · rw [if_pos (b0.mpr p0), if_neg (fun w => b1.mp w p1), if_neg (by decide)]
        exact fin (X := True) (bi_t trivial).symm ⟨fun _ => Or.inr ⟨m52, fun w => p0 (w.mpr p1)⟩, fun _ => trivial⟩
      · rw [if_pos (b0.mpr p0), if_pos (b1.mpr p1), if_pos rfl]
        exact fin (X := False) (bi_f id).symm ⟨fun w => w.elim, fun w => w.elim (fun w => by omega) (fun w => w.2 ⟨fun w => absurd w p0, fun w => absurd w p1⟩)⟩
    · rw [if_neg (show ¬ (52 : Int32) ≤ nI (mjP P) from nI_ge (b := 52) (by omega) (by omega))]
      by_cases p1025 : f.testBit 0 = true ∧ f.testBit 10 = true
      case neg =>
        rw [if_neg (fun w => p1025 (b1025.mp w))]
        exact fin (X := False) (bi_f id).symm ⟨fun w => w.elim, fun w => w.elim (fun w => p1025 ⟨w.2.1, w.2.2.1⟩) (fun w => m52 w.1)⟩
      rw [if_pos (b1025.mpr p1025)]
      by_cases p8 : (nI f &&& (8 : Int32)) = 0
      case neg =>
        rw [if_neg p8]
        exact fin (X := False) (bi_f id).symm ⟨fun w => w.elim, fun w => w.elim (fun w => p8 w.2.2.2) (fun w => m52 w.1)⟩
      rw [if_pos p8]
      have p2 : (nI f &&& (2 : Int32)) = 0 := a314 hf (Classical.byContradiction fun w => hna ⟨fun z => b10.mp z p1025.2, Or.inl w⟩)
      rw [if_pos p2]
      exact fin (X := True) (bi_t trivial).symm ⟨fun _ => Or.inl ⟨by omega, p1025.1, p1025.2, p8⟩, fun _ => trivial⟩
  have k1 := key True
  have k0 := key False
  rw [bi_t trivial] at k1
  rw [bi_f id] at k0
  have e79 : ∀ (B : Prop), (B ↔ (46 ≤ mjP P ∧ mjP P ≤ 60 ∧ ¬ (nI f &&& (2048 : Int32)) = 0)) → x_areMethodFlags_79 fu σ c (nI f) (bi B) = some (bi (t = lT 11 ∨ mflP P (¬ (nI fl &&& (512 : Int32)) = 0) (t = lT 10) f)) := by
    intro B hB
    unfold x_areMethodFlags_79 x_areMethodFlags_100 x_areMethodFlags_104
    by_cases q10 : (nI f &&& (1024 : Int32)) = 0
    · rw [if_pos q10]
      exact k1 ⟨fun w => absurd q10 w.1, fun w => absurd trivial w⟩
    rw [if_neg q10]
    by_cases q314 : (nI f &&& (314 : Int32)) = 0
    case neg =>
      rw [if_neg q314]
      exact k0 ⟨fun _ => id, fun _ => ⟨q10, Or.inl q314⟩⟩
    rw [if_pos q314]
    by_cases qB : B
    · rw [ib_t qB]
      exact k0 ⟨fun _ => id, fun _ => ⟨q10, Or.inr (hB.mp qB)⟩⟩
    · rw [ib_f qB]
      exact k1 ⟨fun w => absurd (w.2.elim (fun z => absurd q314 z) id) (fun z => qB (hB.mpr z)), fun w => absurd trivial w⟩
  unfold x_areMethodFlags_78
  have z0 := e79 False
  have z1 := e79 True
  rw [bi_f id] at z0
  rw [bi_t trivial] at z1
  by_cases m46 : mjP P < 46
  · rw [if_pos (show nI (mjP P) < (46 : Int32) from nI_lt (b := 46) m46 (by omega))]
    exact z0 ⟨fun w => w.elim, fun w => by omega⟩
  rw [if_neg (show ¬ nI (mjP P) < (46 : Int32) from nI_nlt (b := 46) (by omega) (by omega))]
  by_cases m60 : 60 < mjP P
  · rw [if_pos (show (60 : Int32) < nI (mjP P) from nI_lt (a := 60) m60 (by omega))]
    exact z0 ⟨fun w => w.elim, fun w => by omega⟩
  rw [if_neg (show ¬ (60 : Int32) < nI (mjP P) from nI_nlt (a := 60) (by omega) (by omega))]
  by_cases q2048 : (nI f &&& (2048 : Int32)) = 0
  · rw [if_pos q2048]
    exact z0 ⟨fun w => w.elim, fun w => w.2.2 q2048⟩
  · rw [if_neg q2048]
    exact z1 ⟨fun _ => ⟨by omega, by omega, q2048⟩, fun _ => trivial⟩
/-- describe adds up the places -/
theorem x_desc_loop {m s : Nat} {t : List Nat} (hfu : 131072 < fu) : ∀ (d b c k fz c' k' : Nat) (σ : GS), k ≤ t.length → d ≤ fz → plS t d c k = some (c', k') → k' < t.length → WF σ → xLi N σ → ¬ N m → gk σ m = 4 → gr σ m 2 = some s → pS N t s σ → gi σ m 13 = nI (b + c) → ∃ σ', x_describe_18L fu fz σ m (nI k) = some σ' ∧ sm m [13] σ σ' ∧ gi σ' m 13 = nI (b + c') := by
  intro d
  induction d with
  | zero => intro b c k fz c' k' σ _ _ h; cases h
  | succ d ih =>
    intro b c k fz c' k' σ hk hf hp hk' hw hL hN hm r2 hs h13
    obtain ⟨fz, rfl⟩ : ∃ z9, fz = z9 + 1 := ⟨fz - 1, by omega⟩
    have hle := plS_le _ _ _ _ _ hk hp
    have hT := hs.1.toxT
    have hK := hL.k (fu := fu) (by omega)
    have hc := hT.2.2.1 k
    unfold plS at hp
    rw [if_neg (by omega)] at hp
    have step : x_describe_18L fu (fz + 1) σ m (nI k) = x_describe_18 fu (x_describe_18L fu fz) σ m (nI k) := rfl
    rw [step]
    unfold x_describe_18
    rw [ckT_ok hm, r2, ckK_ok hs.1.1, hT.2.2.2.2 k (by omega), Option.bind_some, x_kindAt_ok hT hK (by omega), Option.bind_some, x_isTwo_ok (by have := kindS_lt (ch t k); omega), Option.bind_some, propext (kindS_two (ch t k))]
    by_cases c2 : ch t k = 41
    · rw [if_pos c2] at hp
      cases hp
      rw [if_pos (show nI (ch t k) = (41 : Int32) by rw [c2]; rfl)]
      exact ⟨σ, rfl, sm.rf, h13⟩
    rw [if_neg c2] at hp
    rw [if_neg (nL (k := 41) (by omega) (by omega) c2)]
    cases hft : ftS t k with
    | none =>
      rw [hft] at hp
      cases hp
    | some e =>
      rw [hft] at hp
      have hl := ftS_lt hft
      have go : ∀ a : Nat, wS (ch t k) = a → ∃ σ', x_describe_55 fu (x_describe_18L fu fz) σ m (nI k) (nI a) (gi σ m 13) m = some σ' ∧ sm m [13] σ σ' ∧ gi σ' m 13 = nI (b + c') := by
        intro a ha
        unfold x_describe_55
        rw [ckT_ok hm, nx_eq, h13, nI_add]
        have f1 : Fq (fun b j => b = m ∧ j = 13) σ (gpi σ m 13 (nI (b + c + a))) := Fq.pi ⟨rfl, rfl⟩
        have hs1 := hs.fr f1 hw (fun b j mm _ z => hN (z.1 ▸ mm))
        have hL1 : xLi N (gpi σ m 13 (nI (b + c + a))) := by
          intro j hj
          obtain ⟨l1, l2, l3⟩ := hL j hj
          have : pS N (xl j) (gz σ j) (gpi σ m 13 (nI (b + c + a))) := pS.fr ⟨l1, l2, l3⟩ f1 hw (fun b j mm _ z => hN (z.1 ▸ mm))
          exact this
        rw [ckT_ok (gk_gpi.trans hm), gr_gpi, r2, ckR_ok, x_endOfType_ok hs1.1.toxT (hL1.k (by omega)) hk (by omega), Option.bind_some, hft]
        obtain ⟨σ', y1, y2, y3⟩ := ih b (c + a) e fz c' k' (gpi σ m 13 (nI (b + c + a))) hl.2 (by omega) (by rw [← ha]; exact hp) hk' (f1.wf hw) hL1 hN (gk_gpi.trans hm) (gr_gpi.trans r2) hs1 (by rw [gi_gpi_eq, Nat.add_assoc])
        exact ⟨σ', y1, (sm.put (by decide)).tr y2, y3⟩
      by_cases q : TwoS (ch t k)
      · rw [ib_t q]
        exact go 2 (if_pos q)
      · rw [ib_f q]
        exact go 1 (if_neg q)
theorem x_describe_ok {m s f : Nat} {t : List Nat} (hfu : 131072 < fu) (hw : WF σ) (hL : xLi N σ) (hN : ¬ N m) (hm : gk σ m = 4) (h5 : gi σ m 5 = nI f) (r2 : gr σ m 2 = some s) (hs : pS N t s σ) (hp : placesS t ≠ none) : ∃ σ', x_describe fu σ m = some σ' ∧ sm m [13] σ σ' ∧ gi σ' m 13 = nI (npS t f) := by
  cases hpl : placesS t with
  | none => exact absurd hpl hp
  | some cc =>
    obtain ⟨-, k, h1, h2, -⟩ := placesS_pl hpl
    have h3 := placesS_le hpl
    have hlt := hs.1.toxT.2.1
    unfold x_describe x_describe_0 x_X5_isStatic x_X5_isStatic_0 npS
    rw [ckT_ok hm, ckT_ok hm, h5, hpl]
    have go : ∀ b : Nat, ∃ σ', x_describe_15 fu σ m (1 : Int32) (nI b) m = some σ' ∧ sm m [13] σ σ' ∧ gi σ' m 13 = nI (cc + b) := by
      intro b
      unfold x_describe_15
      rw [ckT_ok hm, nx_eq]
      have f1 : Fq (fun b j => b = m ∧ j = 13) σ (gpi σ m 13 (nI b)) := Fq.pi ⟨rfl, rfl⟩
      have hs1 := hs.fr f1 hw (fun b j mm _ z => hN (z.1 ▸ mm))
      have hL1 : xLi N (gpi σ m 13 (nI b)) := by
        intro j hj
        obtain ⟨l1, l2, l3⟩ := hL j hj
        have : pS N (xl j) (gz σ j) (gpi σ m 13 (nI b)) := pS.fr ⟨l1, l2, l3⟩ f1 hw (fun b j mm _ z => hN (z.1 ▸ mm))
        exact this
      obtain ⟨σ', y1, y2, y3⟩ := x_desc_loop (N := N) (fu := fu) (m := m) (s := s) (t := t) hfu t.length b 0 1 fu cc k (gpi σ m 13 (nI b)) (by omega) (by omega) h1 h2 (f1.wf hw) hL1 hN (gk_gpi.trans hm) (gr_gpi.trans r2) hs1 gi_gpi_eq
      exact ⟨σ', y1, (sm.put (by decide)).tr y2, by rw [y3, Nat.add_comm]⟩
    by_cases q : (nI f &&& (8 : Int32)) = 0
    · rw [if_pos q, Option.bind_some, if_pos rfl, if_pos q]
      exact go 1
    · rw [if_neg q, Option.bind_some, if_neg i10, if_neg q]
      exact go 0
end Mth
