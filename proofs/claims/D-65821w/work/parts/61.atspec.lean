/-! attributes: what they are to be -/
section AtSpec
set_option maxRecDepth 100000
theorem nI_andN (a b : Nat) : nI a &&& nI b = nI (a &&& b) := by
  refine Int32.toBitVec_inj.mp ?_
  refine BitVec.eq_of_getLsbD_eq fun i hi => ?_
  have e : ∀ n : Nat, (nI n).toBitVec.getLsbD i = n.testBit i := fun n => by
    show (BitVec.ofNat 32 n).getLsbD i = _
    rw [BitVec.getLsbD_ofNat, decide_eq_true hi, Bool.true_and]
  rw [Int32.toBitVec_and, BitVec.getLsbD_and, e, e, e, Nat.testBit_and]
theorem nI_orN (a b : Nat) : nI a ||| nI b = nI (a ||| b) := by
  refine Int32.toBitVec_inj.mp ?_
  refine BitVec.eq_of_getLsbD_eq fun i hi => ?_
  have e : ∀ n : Nat, (nI n).toBitVec.getLsbD i = n.testBit i := fun n => by
    show (BitVec.ofNat 32 n).getLsbD i = _
    rw [BitVec.getLsbD_ofNat, decide_eq_true hi, Bool.true_and]
  rw [Int32.toBitVec_or, BitVec.getLsbD_or, e, e, e, Nat.testBit_or]
theorem sm32 : ∀ v, v < 11 → (((nI v) &&& 31).toBitVec.smod 32).toNat = v := by decide +kernel
theorem bt1 {v s : Nat} (hv : v < 11) (hs : s < 2048) : (((nI s) >>> ((nI v) &&& 31)) &&& (1 : Int32)) = (1 : Int32) ↔ s.testBit v = true := by
  rw [pk_shrN (by omega) _ v (sm32 v hv), show (1 : Int32) = nI 1 from rfl, nI_andN, Nat.and_one_is_mod, nI_eq (by omega) (by omega), Nat.testBit_eq_decide_div_mod_eq, decide_eq_true_iff]
theorem bt2 {v s : Nat} (hv : v < 11) : ((nI s) ||| ((1 : Int32) <<< ((nI v) &&& 31))) = nI (s ||| 2 ^ v) := by
  have h : 2 ^ v < 2 ^ 11 := Nat.pow_lt_pow_right (by omega) hv
  have e : (1 : Int32) <<< ((nI v) &&& 31) = nI (1 * 2 ^ v) := pk_shlN (n := 1) _ v (sm32 v hv) (by omega)
  rw [e, nI_orN, Nat.one_mul]
theorem bt3 {s v : Nat} (hs : s < 2048) (hv : v < 11) : s ||| 2 ^ v < 2048 := Nat.or_lt_two_pow (n := 11) hs (Nat.pow_lt_pow_right (by omega) hv)
/-- which known one it is where it stands; 0 for none -/
def knS (maj wh : Nat) (t : List Nat) : Nat :=
  if wh = 0 then (if t = lT 0 then 1 else 0) else
  if wh = 1 then (if t = lT 1 then 2 else if t = lT 2 then 3 else 0) else
  if wh = 2 then (if t = lT 3 then (if 50 ≤ maj then 4 else 0) else 0) else
  if t = lT 4 then 5 else if t = lT 5 then (if 51 ≤ maj then 6 else 0) else if t = lT 6 then (if 55 ≤ maj then 7 else 0) else if t = lT 7 then (if 55 ≤ maj then 8 else 0) else if t = lT 8 then (if 60 ≤ maj then 9 else 0) else if t = lT 9 then (if 61 ≤ maj then 10 else 0) else 0
theorem knS_le (maj wh : Nat) (t : List Nat) : knS maj wh t ≤ 10 ∧ (wh = 0 → knS maj wh t ≤ 1) ∧ (wh = 1 → knS maj wh t = 0 ∨ knS maj wh t = 2 ∨ knS maj wh t = 3) ∧ (wh = 2 → knS maj wh t = 0 ∨ knS maj wh t = 4) ∧ (wh = 3 → knS maj wh t = 0 ∨ 5 ≤ knS maj wh t) := by
  unfold knS
  repeat' split
  all_goals omega
def clsP (P : PD) (p : Nat) : Prop := ∀ k, 0 ≤ k → k < U2 P.1 p → tgP P (U2 P.1 (p + 2 + 2 * k)) = 7
def inP (P : PD) (p k : Nat) : Prop := tgP P (U2 P.1 (p + 2 + 8 * k)) = 7 ∧ (U2 P.1 (p + 2 + 8 * k + 2) = 0 ∨ tgP P (U2 P.1 (p + 2 + 8 * k + 2)) = 7) ∧ (U2 P.1 (p + 2 + 8 * k + 4) = 0 ∨ tgP P (U2 P.1 (p + 2 + 8 * k + 4)) = 1)
def innP (P : PD) (p : Nat) : Prop := ∀ k, 0 ≤ k → k < U2 P.1 p → inP P p k
/-- where attributes end -/
def eoL (F : Nat → Int32) (e : Nat) : Nat → Nat → Option Nat
  | 0, q => some q
  | k + 1, q => if e < q + 6 then none else if e - q - 6 < U4 F (q + 2) then none else eoL F e k (q + 6 + U4 F (q + 2))
def eoaS (F : Nat → Int32) (p e : Nat) : Option Nat := if e < p + 2 then none else eoL F e (U2 F p) (p + 2)
theorem eoL_le {F : Nat → Int32} {e : Nat} : ∀ k q {r : Nat}, eoL F e k q = some r → q ≤ r ∧ (q ≤ e → r ≤ e) := by
  intro k
  induction k with
  | zero =>
    intro q r h
    cases h
    exact ⟨Nat.le_refl _, id⟩
  | succ k ih =>
    intro q r h
    unfold eoL at h
    split at h
    · cases h
    · split at h
      · cases h
      · have := ih _ h
        exact ⟨by omega, fun _ => this.2 (by omega)⟩
def bsL (F : Nat → Int32) (e : Nat) : Nat → Nat → Option Nat
  | 0, q => some q
  | k + 1, q => if e < q + 4 ∨ e < q + 4 + 2 * U2 F (q + 2) then none else bsL F e k (q + 4 + 2 * U2 F (q + 2))
def ldP (P : PD) (e : Nat) : Prop := (3 ≤ tgP P e ∧ tgP P e ≤ 8) ∨ (15 ≤ tgP P e ∧ tgP P e ≤ 17)
def bsT (P : PD) : Nat → Nat → Prop
  | 0, _ => True
  | k + 1, q => tgP P (U2 P.1 q) = 15 ∧ (∀ j, 1 ≤ j → j < U2 P.1 (q + 2) + 1 → ldP P (U2 P.1 (q + 2 + 2 * j))) ∧ bsT P k (q + 4 + 2 * U2 P.1 (q + 2))
noncomputable def booS (P : PD) (pl p len : Nat) : FE Unit := if len < 2 then .error (30, pl) else if bsL P.1 (p + len) (U2 P.1 p) (p + 2) = some (p + len) then ci (bsT P (U2 P.1 p) (p + 2)) (.ok ()) (.error (38, pl)) else .error (30, pl)
def rcL (F : Nat → Int32) (e : Nat) : Nat → Nat → Option Nat
  | 0, q => some q
  | k + 1, q => if e < q + 6 then none else match eoL F e (U2 F (q + 4)) (q + 6) with
    | none => none
    | some q' => rcL F e k q'
def rcA (P : PD) : Nat → Nat → FE Nat
  | 0, q => .ok q
  | k + 1, q => if tgP P (U2 P.1 q) = 1 then rcA P k (q + 6 + U4 P.1 (q + 2)) else .error (28, q)
noncomputable def rcT (P : PD) (pl : Nat) : Nat → Nat → FE Unit
  | 0, _ => .ok ()
  | k + 1, q => ci (tgP P (U2 P.1 q) = 1 ∧ PlainS (txP P (U2 P.1 q)) 0 (txP P (U2 P.1 q)).length False ∧ tgP P (U2 P.1 (q + 2)) = 1 ∧ FieldS (txP P (U2 P.1 (q + 2)))) (eb (rcA P (U2 P.1 (q + 4)) (q + 6)) fun q' => rcT P pl k q') (.error (37, pl))
noncomputable def recS (P : PD) (pl p len : Nat) : FE Unit := if len < 2 then .error (30, pl) else if rcL P.1 (p + len) (U2 P.1 p) (p + 2) = some (p + len) then rcT P pl (U2 P.1 p) (p + 2) else .error (30, pl)
/-- a row of the exception table -/
def rowP (P : PD) (sz s : Nat) : Prop := U2 P.1 s < U2 P.1 (s + 2) ∧ U2 P.1 (s + 2) ≤ sz ∧ U2 P.1 (s + 4) < sz ∧ (U2 P.1 (s + 6) = 0 ∨ tgP P (U2 P.1 (s + 6)) = 7)
/-- attributes of code -/
def atN (P : PD) : Nat → Nat → Bool → FE Unit
  | 0, _, _ => .ok ()
  | k + 1, p, s => if tgP P (U2 P.1 p) = 1 then (if knS (mjP P) 2 (txP P (U2 P.1 p)) = 0 then atN P k (p + 6 + U4 P.1 (p + 2)) s else if s then .error (29, p) else atN P k (p + 6 + U4 P.1 (p + 2)) true) else .error (28, p)
noncomputable def codS (P : PD) (np pl p len : Nat) : FE Unit :=
  if len < 8 then .error (30, pl) else if len - 8 < U4 P.1 (p + 4) then .error (30, pl) else
  if p + len < p + 8 + U4 P.1 (p + 4) + 2 then .error (30, pl) else
  if p + len < p + 8 + U4 P.1 (p + 4) + 2 + 8 * U2 P.1 (p + 8 + U4 P.1 (p + 4)) then .error (30, pl) else
  if eoaS P.1 (p + 8 + U4 P.1 (p + 4) + 2 + 8 * U2 P.1 (p + 8 + U4 P.1 (p + 4))) (p + len) = some (p + len) then
  if U4 P.1 (p + 4) = 0 ∨ 65535 < U4 P.1 (p + 4) then .error (41, pl) else if U2 P.1 (p + 2) < np then .error (42, pl) else
  ci (∀ k, 0 ≤ k → k < U2 P.1 (p + 8 + U4 P.1 (p + 4)) → rowP P (U4 P.1 (p + 4)) (p + 8 + U4 P.1 (p + 4) + 2 + 8 * k)) (atN P (U2 P.1 (p + 8 + U4 P.1 (p + 4) + 2 + 8 * U2 P.1 (p + 8 + U4 P.1 (p + 4)))) (p + 8 + U4 P.1 (p + 4) + 2 + 8 * U2 P.1 (p + 8 + U4 P.1 (p + 4)) + 2) false) (.error (43, pl))
  else .error (30, pl)
/-- what ConstantValue may name -/
def cokP (P : PD) (d : List Nat) (e : Nat) : Prop := if ch d 0 = 74 then tgP P e = 5 else if ch d 0 = 70 then tgP P e = 4 else if ch d 0 = 68 then tgP P e = 6 else if ch d 0 = 76 then d = lT 13 ∧ tgP P e = 8 else if ch d 0 = 91 then False else tgP P e = 3
abbrev tabS (F : Nat → Int32) (p len row : Nat) : Prop := 2 ≤ len ∧ len = 2 + row * U2 F p
/-- one attribute that is known -/
noncomputable def atS (P : PD) (fin : Prop) (fl : Nat) (d : List Nat) (np w pl p len : Nat) (a : Nat → Nat) : FE (Nat → Nat) :=
  if w = 1 then (if len = 2 then (if (nI fl &&& (8 : Int32)) = 0 then .ok a else ci (cokP P d (U2 P.1 p)) (.ok (uA a 1 (U2 P.1 p))) (.error (31, pl))) else .error (30, pl)) else
  if w = 2 then eb (codS P np pl p len) fun _ => .ok (uA a 3 p) else
  if w = 3 then (if tabS P.1 p len 2 then ci (clsP P p) (.ok (uA a 2 (U2 P.1 p))) (.error (32, pl)) else .error (30, pl)) else
  if w = 5 then (if tabS P.1 p len 8 then ci (innP P p) (.ok (uA a 4 (U2 P.1 p))) (.error (33, pl)) else .error (30, pl)) else
  if w = 6 then eb (booS P pl p len) fun _ => .ok (uA a 8 p) else
  if w = 7 then (if len = 2 then (if tgP P (U2 P.1 p) = 7 ∧ a 10 = 0 then .ok (uA a 9 1) else .error (34, pl)) else .error (30, pl)) else
  if w = 8 then (if tabS P.1 p len 2 then ci (clsP P p ∧ a 9 = 0) (.ok (uA (uA a 10 1) 5 (U2 P.1 p))) (.error (35, pl)) else .error (30, pl)) else
  if w = 9 then eb (recS P pl p len) fun _ => .ok (uA a 7 (U2 P.1 p + 1)) else
  if tabS P.1 p len 2 then ci (clsP P p ∧ ¬ fin) (.ok (uA a 6 (U2 P.1 p))) (.error (36, pl)) else .error (30, pl)
noncomputable def attsS (P : PD) (wh : Nat) (fin : Prop) (fl : Nat) (d : List Nat) (np : Nat) : Nat → Nat → Nat → (Nat → Nat) → FE (Nat → Nat)
  | 0, _, _, a => .ok a
  | k + 1, p, s, a => if tgP P (U2 P.1 p) = 1 then (if knS (mjP P) wh (txP P (U2 P.1 p)) = 0 then attsS P wh fin fl d np k (p + 6 + U4 P.1 (p + 2)) s a else if s.testBit (knS (mjP P) wh (txP P (U2 P.1 p)) - 1) then .error (29, p) else eb (atS P fin fl d np (knS (mjP P) wh (txP P (U2 P.1 p))) p (p + 6) (U4 P.1 (p + 2)) (uA a 0 (a 0 + 1))) fun a' => attsS P wh fin fl d np k (p + 6 + U4 P.1 (p + 2)) (s ||| 2 ^ (knS (mjP P) wh (txP P (U2 P.1 p)) - 1)) a') else .error (28, p)
theorem skA_le {F : Nat → Int32} {n : Nat} : ∀ k p {q : Nat}, skA F n k p = .ok q → p ≤ q ∧ (p ≤ n → q ≤ n) := by
  intro k
  induction k with
  | zero =>
    intro p q h
    cases h
    exact ⟨Nat.le_refl _, id⟩
  | succ k ih =>
    intro p q h
    have h : eb (itS n p 2) (fun _ => eb (itS n (p + 2) 4) fun _ => eb (itS n (p + 6) (U4 F (p + 2))) fun _ => skA F n k (p + 6 + U4 F (p + 2))) = .ok q := h
    obtain ⟨_, h1, h⟩ := eb_inv h
    obtain ⟨_, h2, h⟩ := eb_inv h
    obtain ⟨_, h3, h⟩ := eb_inv h
    have := itS_ok h3
    have := ih _ h
    exact ⟨by omega, fun _ => this.2 (by omega)⟩
theorem skA_su {F : Nat → Int32} {n k p q : Nat} (h : skA F n (k + 1) p = .ok q) : p + 6 + U4 F (p + 2) ≤ n ∧ skA F n k (p + 6 + U4 F (p + 2)) = .ok q := by
  have h : eb (itS n p 2) (fun _ => eb (itS n (p + 2) 4) fun _ => eb (itS n (p + 6) (U4 F (p + 2))) fun _ => skA F n k (p + 6 + U4 F (p + 2))) = .ok q := h
  obtain ⟨_, h1, h⟩ := eb_inv h
  obtain ⟨_, h2, h⟩ := eb_inv h
  obtain ⟨_, h3, h⟩ := eb_inv h
  exact ⟨itS_ok h3, h⟩
/-- attributes that end where they should are such as reading went over -/
theorem eoL_skA {F : Nat → Int32} {e n : Nat} (hn : e ≤ n) : ∀ k q {r : Nat}, eoL F e k q = some r → skA F n k q = .ok r := by
  intro k
  induction k with
  | zero =>
    intro q r h
    cases h
    rfl
  | succ k ih =>
    intro q r h
    unfold eoL at h
    split at h
    · cases h
    · split at h
      · cases h
      · show eb (itS n q 2) (fun _ => eb (itS n (q + 2) 4) fun _ => eb (itS n (q + 6) (U4 F (q + 2))) fun _ => skA F n k (q + 6 + U4 F (q + 2))) = .ok r
        rw [show itS n q 2 = .ok () from if_neg (by omega), eb_ok, show itS n (q + 2) 4 = .ok () from if_neg (by omega), eb_ok, show itS n (q + 6) (U4 F (q + 2)) = .ok () from if_neg (by omega), eb_ok]
        exact ih _ h
end AtSpec
