/-! fields: what they are to be; the component -/
section Fld
set_option maxRecDepth 100000
theorem nb1 {f i : Nat} : f &&& 2 ^ i = 0 ↔ f.testBit i = false := by
  constructor
  · intro h
    have := congrArg (fun x => Nat.testBit x i) h
    simp only [Nat.testBit_and, Nat.testBit_two_pow, Nat.zero_testBit] at this
    simpa using this
  · intro h
    refine Nat.eq_of_testBit_eq fun k => ?_
    rw [Nat.testBit_and, Nat.testBit_two_pow, Nat.zero_testBit]
    by_cases e : i = k
    · rw [← e, h, Bool.false_and]
    · rw [decide_eq_false e, Bool.and_false]
theorem nb2 {f i j : Nat} : f &&& (2 ^ i ||| 2 ^ j) = (2 ^ i ||| 2 ^ j) ↔ f.testBit i = true ∧ f.testBit j = true := by
  constructor
  · intro h
    have h1 := congrArg (fun x => Nat.testBit x i) h
    have h2 := congrArg (fun x => Nat.testBit x j) h
    simp only [Nat.testBit_and, Nat.testBit_or, Nat.testBit_two_pow] at h1 h2
    constructor
    · simpa using h1
    · simpa using h2
  · rintro ⟨h1, h2⟩
    refine Nat.eq_of_testBit_eq fun k => ?_
    rw [Nat.testBit_and, Nat.testBit_or, Nat.testBit_two_pow, Nat.testBit_two_pow]
    by_cases e : i = k
    · subst e
      rw [h1, Bool.true_and]
    · by_cases e2 : j = k
      · subst e2
        rw [h2, Bool.true_and]
      · rw [decide_eq_false e, decide_eq_false e2, Bool.or_false, Bool.and_false]
theorem nI0b {f i : Nat} (hf : f < 65536) (hi : i < 16) : (nI f &&& nI (2 ^ i)) = 0 ↔ ¬ f.testBit i = true := by
  have h1 : f &&& 2 ^ i < 65536 := Nat.lt_of_le_of_lt Nat.and_le_left hf
  rw [nI_andN, show (0 : Int32) = nI 0 from rfl, nI_eq (by omega) (by omega), nb1]
  cases f.testBit i <;> simp
theorem nI2b {f i j : Nat} (hf : f < 65536) (hi : i < 16) (hj : j < 16) : (nI f &&& nI (2 ^ i ||| 2 ^ j)) = nI (2 ^ i ||| 2 ^ j) ↔ f.testBit i = true ∧ f.testBit j = true := by
  have h1 : f &&& (2 ^ i ||| 2 ^ j) < 65536 := Nat.lt_of_le_of_lt Nat.and_le_left hf
  have h2 : 2 ^ i ||| 2 ^ j < 2 ^ 16 := Nat.or_lt_two_pow (Nat.pow_lt_pow_right (by omega) hi) (Nat.pow_lt_pow_right (by omega) hj)
  rw [nI_andN, nI_eq (by omega) (by omega), nb2]
/-- more than one of public, private, protected -/
def mto (f : Nat) : Prop := (f.testBit 0 = true ∧ f.testBit 1 = true) ∨ (f.testBit 0 = true ∧ f.testBit 2 = true) ∨ (f.testBit 1 = true ∧ f.testBit 2 = true)
theorem x_more_ok {σ : GS} {f : Nat} (hf : f < 65536) : x_isMoreThanOne σ (nI f) = some (bi (mto f)) := by
  have a := nI2b (i := 0) (j := 1) hf (by omega) (by omega)
  have b := nI2b (i := 0) (j := 2) hf (by omega) (by omega)
  have c := nI2b (i := 1) (j := 2) hf (by omega) (by omega)
  have a : (nI f &&& (3 : Int32)) = (3 : Int32) ↔ _ := a
  have b : (nI f &&& (5 : Int32)) = (5 : Int32) ↔ _ := b
  have c : (nI f &&& (6 : Int32)) = (6 : Int32) ↔ _ := c
  unfold x_isMoreThanOne x_isMoreThanOne_0 x_isMoreThanOne_23 mto
  by_cases q1 : f.testBit 0 = true ∧ f.testBit 1 = true
  · rw [if_pos (a.mpr q1), bi_t (Or.inl q1)]
  rw [if_neg (fun w => q1 (a.mp w))]
  by_cases q2 : f.testBit 0 = true ∧ f.testBit 2 = true
  · rw [if_pos (b.mpr q2), bi_t (Or.inr (Or.inl q2))]
  rw [if_neg (fun w => q2 (b.mp w))]
  by_cases q3 : f.testBit 1 = true ∧ f.testBit 2 = true
  · rw [if_pos (c.mpr q3), bi_t (Or.inr (Or.inr q3))]
  · rw [if_neg (fun w => q3 (c.mp w)), bi_f (fun w => w.elim q1 (fun w => w.elim q2 q3))]
/-- a field's flags that may not be -/
def fbad (face : Prop) (f : Nat) : Prop := mto f ∨ (f.testBit 4 = true ∧ f.testBit 6 = true) ∨ (face ∧ ¬ (nI f &&& (16607 : Int32)) = 25)
/-- a member: its place and what its attributes give -/
abbrev MR : Type := Nat × (Nat → Nat)
def uM (M : Nat → MR) (k : Nat) (v : MR) : Nat → MR := fun i => if i = k then v else M i
def n2 (P : PD) (p : Nat) : List Nat := txP P (U2 P.1 (p + 2))
def n4 (P : PD) (p : Nat) : List Nat := txP P (U2 P.1 (p + 4))
noncomputable def fdS (P : PD) (face fin : Prop) : Nat → Nat → Nat → (Nat → MR) → FE (Nat → MR)
  | 0, _, _, M => .ok M
  | d + 1, k, p, M => ci (fbad face (U2 P.1 p)) (.error (19, p)) (ci (tgP P (U2 P.1 (p + 2)) = 1 ∧ PlainS (n2 P p) 0 (n2 P p).length False) (ci (tgP P (U2 P.1 (p + 4)) = 1 ∧ FieldS (n4 P p)) (ci (∀ j, 0 ≤ j → j < k → ¬ (n2 P (M j).1 = n2 P p ∧ n4 P (M j).1 = n4 P p)) (eb (attsS P 0 fin (U2 P.1 p) (n4 P p) 0 (U2 P.1 (p + 6)) (p + 8) 0 (fun _ => 0)) fun a => eb (attrS P.1 P.2.1 (p + 6)) fun q => fdS P face fin d (k + 1) q (uM M k (p, a))) (.error (22, p))) (.error (21, p + 4))) (.error (20, p + 2)))
variable {P : PD} {x0 c lo hd fa fu : Nat} {N : Nat → Prop} {σ : GS}
/-- a field that the component keeps -/
def xFd (P : PD) (N : Nat → Prop) (f : Nat) (r : MR) (σ : GS) : Prop := gk σ f = 3 ∧ (gi σ f 4 = nI (U2 P.1 r.1) ∧ gi σ f 2 = nI (U2 P.1 (r.1 + 2)) ∧ gi σ f 3 = nI (U2 P.1 (r.1 + 4)) ∧ gi σ f 7 = nI (r.2 0) ∧ gi σ f 5 = nI (r.2 1)) ∧ (∃ s, gr σ f 0 = some s ∧ pS N (n2 P r.1) s σ) ∧ ∃ s, gr σ f 1 = some s ∧ pS N (n4 P r.1) s σ
theorem xFd.fr {f : Nat} {r : MR} {σ' : GS} {W : Nat → Nat → Prop} (h : xFd P N f r σ) (q : Fq W σ σ') (hw : WF σ) (h1 : ∀ a j, gk σ a = 3 → ¬ W a j) (hN : ∀ a j, N a → gk σ a = 6 ∨ gk σ a = 101 → ¬ W a j) : xFd P N f r σ' := by
  obtain ⟨k1, ⟨a1, a2, a3, a4, a5⟩, ⟨s, b1, b2⟩, t, c1, c2⟩ := h
  have lf : f < gx σ := hw.lt (by rw [k1]; decide)
  exact ⟨q.gk hw k1 (by decide), ⟨(q.gi lf (h1 f _ k1)).trans a1, (q.gi lf (h1 f _ k1)).trans a2, (q.gi lf (h1 f _ k1)).trans a3, (q.gi lf (h1 f _ k1)).trans a4, (q.gi lf (h1 f _ k1)).trans a5⟩, ⟨s, (q.gr lf (h1 f _ k1)).trans b1, b2.fr q hw hN⟩, t, (q.gr lf (h1 f _ k1)).trans c1, c2.fr q hw hN⟩
theorem x_pt {e : Nat} (h : xPc P c lo N σ) (g : PG P) (he : e < 65536) (ht : tgP P e = 1) : ∃ t, x_textAt σ c (nI e) = some (some t) ∧ pS N (txP P e) t σ := by
  obtain ⟨h1, h2, h3, h4⟩ := g.in (i := e) (by omega)
  obtain ⟨s, b1, b2, b3, b4⟩ := (h.2.2.2.2.2 e h2).2.2.2.2 ht
  exact ⟨s, by rw [x_textAt_ok h g he, if_pos ht, b1], b2, b3, b4⟩
theorem x_f261 {k23 : GS → Nat → Nat → Int32 → Int32 → Option (Int32 × GS)} {ff k p a3 s t : Nat} {nm ds : List Nat} {M : Nat → MR} {x2 : Int32} {R : Option (Int32 × GS)} (hQ : xQ P x0 c lo N hd fa σ) (hfu : 131072 < fu) (h12 : gr σ c 12 = some ff) (kf : gk σ ff = 106) (nf : k < gn σ ff) (nf2 : gn σ ff < 65536) (ka : gk σ a3 = 3) (r0 : gr σ a3 0 = some s) (hs : sS nm s σ) (r1 : gr σ a3 1 = some t) (ht : sS ds t σ) (hv : ∀ j, j < k → ∃ f, gr σ ff j = some f ∧ xFd P N f (M j) σ) (hR : ∀ fz, x_checkFields_261L fu k23 (fz + 1) σ x0 c x2 (nI k) a3 (nI p) (nI k) = R) : ∀ d j fz, j + d = k → d < fz → x_checkFields_261L fu k23 fz σ x0 c x2 (nI k) a3 (nI p) (nI j) = ci (∀ i, j ≤ i → i < k → ¬ (n2 P (M i).1 = nm ∧ n4 P (M i).1 = ds)) R (some (0, xwr σ x0 22 p)) := by
  intro d
  induction d with
  | zero =>
    intro j fz hj hf
    obtain ⟨fz, rfl⟩ : ∃ z9, fz = z9 + 1 := ⟨fz - 1, by omega⟩
    obtain rfl : j = k := by omega
    rw [hR, ci_t (fun i i1 i2 => by omega)]
  | succ d ih =>
    intro j fz hj hf
    obtain ⟨fz, rfl⟩ : ∃ z9, fz = z9 + 1 := ⟨fz - 1, by omega⟩
    show x_checkFields_261 fu k23 (x_checkFields_261L fu k23 fz) σ x0 c x2 (nI k) a3 (nI p) (nI j) = _
    obtain ⟨f, b1, b2⟩ := hv j (by omega)
    obtain ⟨b3, -, ⟨u, u1, u2⟩, w, w1, w2⟩ := b2
    unfold x_checkFields_261 x_checkFields_318
    rw [if_neg (nI_ge (by omega) (by omega)), ckT_ok hQ.2.1.1.1.1, h12, ckK_ok kf, ckIn_n (by omega) (by omega), nI_clamp (by omega), b1, ckK_ok b3, ckT_ok ka, u1, ckK_ok u2.1.1, r0, ckR_ok, x_equals_ok u2.1 hs hfu, Option.bind_some, ckIn_n (by omega) (by omega), w1, ckK_ok w2.1.1, r1, ckR_ok, x_equals_ok w2.1 ht hfu, Option.bind_some, nx_eq, nI_1, ckT_ok hQ.2.1.2.1.1, show (22 : Int32) = nI 22 from rfl, x_wrong_ok hQ.2.1.2.1.1 hQ.2.2.2, Option.bind_some, ckN_0]
    have nxt : ¬ (n2 P (M j).1 = nm ∧ n4 P (M j).1 = ds) → x_checkFields_261L fu k23 fz σ x0 c x2 (nI k) a3 (nI p) (nI (j + 1)) = ci (∀ i, j ≤ i → i < k → ¬ (n2 P (M i).1 = nm ∧ n4 P (M i).1 = ds)) R (some (0, xwr σ x0 22 p)) := by
      intro q
      rw [ih (j + 1) fz (by omega) (by omega), show (∀ i, j ≤ i → i < k → ¬ (n2 P (M i).1 = nm ∧ n4 P (M i).1 = ds)) = (∀ i, j + 1 ≤ i → i < k → ¬ (n2 P (M i).1 = nm ∧ n4 P (M i).1 = ds)) from propext ⟨fun w i i1 i2 => w i (by omega) i2, fun w i i1 i2 => by
        rcases Nat.lt_or_ge j i with z | z
        · exact w i z i2
        · rw [show i = j by omega]
          exact q⟩]
    by_cases q1 : n2 P (M j).1 = nm
    · rw [ib_t q1]
      by_cases q2 : n4 P (M j).1 = ds
      · rw [ib_t q2, ci_f (fun w => w j (Nat.le_refl _) (by omega) ⟨q1, q2⟩)]
      · rw [ib_f q2]
        exact nxt (fun w => q2 w.2)
    · rw [ib_f q1]
      exact nxt (fun w => q1 w.1)
theorem skM_su {F : Nat → Int32} {n d p q : Nat} (h : skM F n (d + 1) p = .ok q) : p + 8 ≤ n ∧ ∃ r, attrS F n (p + 6) = .ok r ∧ r ≤ n ∧ p + 8 ≤ r ∧ skM F n d r = .ok q := by
  have h : eb (itS n p 2) (fun _ => eb (itS n (p + 2) 2) fun _ => eb (itS n (p + 4) 2) fun _ => eb (attrS F n (p + 6)) fun q => skM F n d q) = .ok q := h
  obtain ⟨_, h1, h⟩ := eb_inv h
  obtain ⟨_, h2, h⟩ := eb_inv h
  obtain ⟨_, h3, h⟩ := eb_inv h
  obtain ⟨r, h4, h⟩ := eb_inv h
  have h5 := h4
  unfold attrS at h5
  obtain ⟨_, h6, h5⟩ := eb_inv h5
  have := itS_ok h6
  have h7 := skA_le _ _ h5
  exact ⟨by omega, r, h4, h7.2 (by omega), by omega, h⟩
end Fld
