/-! the head of the class: the component -/
section Head
set_option maxRecDepth 100000
/-- flags that the head may not have -/
def hbad (x : Int32) : Prop := ¬ (x &&& (32768 : Int32)) = 0 ∨ (if (x &&& (512 : Int32)) = 0 then ¬ (x &&& (8192 : Int32)) = 0 ∨ (¬ (x &&& (16 : Int32)) = 0 ∧ ¬ (x &&& (1024 : Int32)) = 0) else (x &&& (1024 : Int32)) = 0 ∨ ¬ (x &&& (16432 : Int32)) = 0)
def plC (P : PD) (e : Nat) : Prop := tgP P e = 7 ∧ ch (clT P e) 0 ≠ 91
def fcE (P : PD) (hd k : Nat) : Nat := U2 P.1 (hd + 8 + 2 * k)
noncomputable def fcS (P : PD) (hd : Nat) : Nat → Nat → FE Unit
  | 0, _ => .ok ()
  | d + 1, k => ci (plC P (fcE P hd k)) (ci (∀ j, 0 ≤ j → j < k → clT P (fcE P hd j) ≠ clT P (fcE P hd k)) (fcS P hd d (k + 1)) (.error (18, hd + 8 + 2 * k))) (.error (18, hd + 8 + 2 * k))
noncomputable def headS (P : PD) (hd : Nat) : FE Unit := ci (hbad (nI (U2 P.1 hd))) (.error (15, hd)) (ci (plC P (U2 P.1 (hd + 2))) (ci (plC P (U2 P.1 (hd + 4)) ∧ ((nI (U2 P.1 hd) &&& (512 : Int32)) = 0 ∨ clT P (U2 P.1 (hd + 4)) = lT 12)) (fcS P hd (U2 P.1 (hd + 6)) 0) (.error (17, hd + 4))) (.error (16, hd + 2)))
/-- how a check ends -/
def xC {α : Type} (x0 : Nat) (W : Nat → Nat → Prop) (C S : Nat) (E : FE α) (Q : α → GS → Prop) (σ : GS) (o : Option (Int32 × GS)) : Prop := match E with
  | .error e => ∃ σ', o = some (0, σ') ∧ xWr x0 e σ' ∧ Fq W σ σ' ∧ C ≤ gc σ' ∧ S ≤ gs σ'
  | .ok a => ∃ σ', o = some (1, σ') ∧ Q a σ' ∧ Fq W σ σ'
theorem xC.trw {α : Type} {x0 : Nat} {W W1 W2 : Nat → Nat → Prop} {C S : Nat} {E : FE α} {Q : α → GS → Prop} {σ σ1 : GS} {o : Option (Int32 × GS)} (h : Fq W1 σ σ1) (k : xC x0 W2 C S E Q σ1 o) (h1 : ∀ a j, a < gx σ → W1 a j → W a j) (h2 : ∀ a j, a < gx σ → W2 a j → W a j) : xC x0 W C S E Q σ o := by
  cases E with
  | error e =>
    obtain ⟨s, k1, k2, k3, k4⟩ := k
    exact ⟨s, k1, k2, h.trw k3 h1 h2, k4⟩
  | ok a =>
    obtain ⟨s, k1, k2, k3⟩ := k
    exact ⟨s, k1, k2, h.trw k3 h1 h2⟩
theorem xC.fr {α : Type} {x0 : Nat} {W : Nat → Nat → Prop} {C S : Nat} {E : FE α} {Q : α → GS → Prop} {σ σ1 : GS} {o : Option (Int32 × GS)} (h : Fq W σ σ1) (k : xC x0 W C S E Q σ1 o) : xC x0 W C S E Q σ o := k.trw h (fun _ _ _ z => z) (fun _ _ _ z => z)
theorem xC.mo {α : Type} {x0 : Nat} {W W' : Nat → Nat → Prop} {C S C' S' : Nat} {E : FE α} {Q Q' : α → GS → Prop} {σ : GS} {o : Option (Int32 × GS)} (k : xC x0 W C S E Q σ o) (hW : ∀ a j, a < gx σ → W a j → W' a j) (hC : C' ≤ C) (hS : S' ≤ S) (hq : ∀ a σ', E = .ok a → Q a σ' → Fq W σ σ' → Q' a σ') : xC x0 W' C' S' E Q' σ o := by
  cases E with
  | error e =>
    obtain ⟨s, k1, k2, k3, k4, k5⟩ := k
    exact ⟨s, k1, k2, k3.mo hW, by omega, by omega⟩
  | ok a =>
    obtain ⟨s, k1, k2, k3⟩ := k
    exact ⟨s, k1, hq a s rfl k2 k3, k3.mo hW⟩
theorem xC.er {α : Type} {x0 : Nat} {W : Nat → Nat → Prop} {C S r p : Nat} {Q : α → GS → Prop} {σ : GS} (hW : ∀ a j, wx x0 a j → W a j) (hC : C ≤ gc σ) (hS : S ≤ gs σ) : xC x0 W C S (.error (r, p) : FE α) Q σ (some (0, xwr σ x0 r p)) := ⟨_, rfl, xwr_ok, Fq.wr hW, by rw [gc_xwr]; exact hC, by rw [gs_xwr]; exact hS⟩
theorem xC.ok {α : Type} {x0 : Nat} {W : Nat → Nat → Prop} {C S : Nat} {Q : α → GS → Prop} {σ : GS} {a : α} (h : Q a σ) : xC x0 W C S (.ok a : FE α) Q σ (some (1, σ)) := ⟨_, rfl, h, Fq.rf⟩
/-- what holds while a file is checked -/
def xQ (P : PD) (x0 c lo : Nat) (N : Nat → Prop) (hd fa : Nat) (σ : GS) : Prop := WF σ ∧ xP P x0 c lo N hd fa σ ∧ xLi N σ ∧ Z8 x0 σ
theorem xQ.fr {P : PD} {x0 c lo : Nat} {N : Nat → Prop} {hd fa : Nat} {σ σ' : GS} {W : Nat → Nat → Prop} (h : xQ P x0 c lo N hd fa σ) (f : Fq W σ σ') (hW : ∀ a j, a < gx σ → W a j → wk x0 c N a j) (h8 : Z8 x0 σ') : xQ P x0 c lo N hd fa σ' := by
  obtain ⟨h1, h2, h3, h4⟩ := h
  have f2 := f.mo hW
  refine ⟨f.wf h1, h2.fr f2 h1, h3.fr f2 h1 h2.1.1.1 (fun a j z m => ?_), h8⟩
  rcases z with z | z | z
  · exact absurd (z.1 ▸ m) h2.2.2.2.2.2.2
  · exact z
  · exact absurd m z.1
section X
variable {P : PD} {x0 c lo hd fa fu : Nat} {N : Nat → Prop} {σ : GS}
theorem x_classAt_ok (h : xPc P c lo N σ) (g : PG P) (rg : RG P) {e : Nat} (ht : tgP P e = 7) : ∃ s, x_classAt σ c (nI e) = some (some s) ∧ sS (clT P e) s σ := by
  have hc := ctP_lt P
  have hpa := paP_lt P e
  obtain ⟨-, i1, -, -⟩ := g.in (i := e) (by omega)
  have h2 := (rg.cl g ht).1.2
  obtain ⟨-, i2, -, -⟩ := g.in (i := paP P e) (by omega)
  obtain ⟨s, s1, s2⟩ := x_text h g h2
  refine ⟨s, ?_, s2⟩
  unfold x_classAt x_classAt_0
  rw [ckT_ok h.1.1, h.2.1.2.1, ckK_ok h.2.2.1.2.1, h.2.2.2.1.2.1, ckIn_n i1 (by omega), nI_clamp (by omega), (x_tg h i1).2.1, h.2.1.2.2.2.2, ckK_ok h.2.2.1.2.2.2.2, h.2.2.2.1.2.2.2.2, ckIn_n i2 (by omega), nI_clamp (by omega), s1]
theorem x_isArrayClass_ok (h : xPc P c lo N σ) (g : PG P) (rg : RG P) {e : Nat} (ht : tgP P e = 7) : x_isArrayClass σ c (nI e) = some (bi (ch (clT P e) 0 = 91)) := by
  obtain ⟨s, s1, s2⟩ := x_classAt_ok h g rg ht
  have hT := s2.toxT
  have hl := (rg.cl g ht).2.2
  have hc := hT.2.2.1 0
  unfold x_isArrayClass x_isArrayClass_0
  rw [s1, Option.bind_some, ckK_ok s2.1, show (0 : Int32) = nI 0 from rfl, hT.2.2.2.2 0 hl, Option.bind_some]
  by_cases q : ch (clT P e) 0 = 91
  · rw [if_pos (by rw [q]; rfl), bi_t q]
  · rw [if_neg (nL (k := 91) (by omega) (by omega) q), bi_f q]
    rfl
/-- a plain class, tested in two steps -/
theorem x_plain {α : Type} (h : xPc P c lo N σ) (g : PG P) (rg : RG P) {e : Nat} (he : e < 65536) {A B : Option α} : ((x_isTag σ c (nI e) (7 : Int32)).bind fun r6 => if r6 = 0 then A else (x_isArrayClass σ c (nI e)).bind fun r9 => if r9 = 0 then B else A) = ci (plC P e) B A := by
  rw [show (7 : Int32) = nI 7 from rfl, x_isTag_ok h g he (by omega) (by omega), Option.bind_some]
  by_cases ht : tgP P e = 7
  · rw [ib_t ht, x_isArrayClass_ok h g rg ht, Option.bind_some]
    by_cases q : ch (clT P e) 0 = 91
    · rw [ib_t q, ci_f (fun w => w.2 q)]
    · rw [ib_f q, ci_t ⟨ht, q⟩]
  · rw [ib_f ht, ci_f (fun w => ht w.1)]
theorem x_h310 {k249 : GS → Nat → Nat → Int32 → Int32 → Option (Int32 × GS)} {a5 nn k e p : Nat} {E : Nat → Nat} {x6 : Int32} (h : xPc P c lo N σ) (g : PG P) (rg : RG P) (hx : gk σ x0 = 1) (h8 : Z8 x0 σ) (h5 : gr σ c 5 = some a5) (k5 : gk σ a5 = 100) (n5 : gn σ a5 = nn) (hnn : nn < 65536) (hkn : k < nn) (he : tgP P e = 7) (hfu : 131072 < fu) (hj : ∀ j, j < k → gi σ a5 j = nI (E j) ∧ tgP P (E j) = 7) : ∀ d j f, j + d = k → d < f → x_checkHead_310L fu k249 f σ x0 c x6 (nI k) (nI p) (nI e) (nI j) = ci (∀ i, j ≤ i → i < k → clT P (E i) ≠ clT P e) (k249 (gpi σ a5 k (nI e)) x0 c x6 (nI (k + 1))) (some (0, xwr σ x0 18 p)) := by
  intro d
  induction d with
  | zero =>
    intro j f hj0 hf
    obtain ⟨f, rfl⟩ : ∃ z9, f = z9 + 1 := ⟨f - 1, by omega⟩
    show x_checkHead_310 fu k249 (x_checkHead_310L fu k249 f) σ x0 c x6 (nI k) (nI p) (nI e) (nI j) = _
    unfold x_checkHead_310
    rw [if_pos (nI_le (by omega) (by omega)), ckT_ok h.1.1, h5, ckK_ok k5, n5, ckIn_n hkn (by omega), nx_eq, nx_eq, nI_1, nI_clamp (by omega), ci_t (fun i i1 i2 => by omega)]
  | succ d ih =>
    intro j f hj0 hf
    obtain ⟨f, rfl⟩ : ∃ z9, f = z9 + 1 := ⟨f - 1, by omega⟩
    show x_checkHead_310 fu k249 (x_checkHead_310L fu k249 f) σ x0 c x6 (nI k) (nI p) (nI e) (nI j) = _
    unfold x_checkHead_310
    obtain ⟨e1, e2⟩ := hj j (by omega)
    obtain ⟨s, s1, s2⟩ := x_classAt_ok h g rg e2
    obtain ⟨t, t1, t2⟩ := x_classAt_ok h g rg he
    rw [if_neg (nI_ge (by omega) (by omega)), ckT_ok h.1.1, h5, ckK_ok k5, n5, ckIn_n (by omega) (by omega), nI_clamp (by omega), e1, s1, Option.bind_some, t1, Option.bind_some, ckK_ok s2.1, ckR_ok, x_equals_ok s2 t2 hfu, Option.bind_some, nx_eq, nI_1, ckT_ok hx, show (18 : Int32) = nI 18 from rfl, x_wrong_ok hx h8, Option.bind_some, ckN_0]
    by_cases q : clT P (E j) = clT P e
    · rw [ib_t q, ci_f (fun w => w j (Nat.le_refl _) (by omega) q)]
    · rw [ib_f q, ih (j + 1) f (by omega) (by omega)]
      rw [show (∀ i, j ≤ i → i < k → clT P (E i) ≠ clT P e) = (∀ i, j + 1 ≤ i → i < k → clT P (E i) ≠ clT P e) from propext ⟨fun w i i1 i2 => w i (by omega) i2, fun w i i1 i2 => by
        rcases Nat.lt_or_ge j i with z | z
        · exact w i z i2
        · rw [show i = j by omega]
          exact q⟩]
theorem x_h249 {a5 nn C S : Nat} (g : PG P) (rg : RG P) (hfu : 131072 < fu) (hnn : nn < 65536) (hh : hd + 8 + 2 * nn ≤ P.2.1) (hN5 : ¬ N a5) (hx5 : a5 ≠ x0) : ∀ d k f σ, k + d = nn → d < f → xQ P x0 c lo N hd fa σ → gr σ c 5 = some a5 → gk σ a5 = 100 → gn σ a5 = nn → (∀ j, j < k → gi σ a5 j = nI (fcE P hd j) ∧ tgP P (fcE P hd j) = 7) → C ≤ gc σ → S ≤ gs σ →
    xC x0 (fun a j => wx x0 a j ∨ a = a5) C S (fcS P hd d k) (fun _ σ' => Z8 x0 σ' ∧ C ≤ gc σ' ∧ S ≤ gs σ') σ (x_checkHead_249L fu f σ x0 c (nI nn) (nI k)) := by
  have hn := g.1
  intro d
  induction d with
  | zero =>
    intro k f σ hk hf hQ h5 k5 n5 hj hC hS
    obtain ⟨f, rfl⟩ : ∃ z9, f = z9 + 1 := ⟨f - 1, by omega⟩
    show xC _ _ _ _ _ _ _ (x_checkHead_249 fu (x_checkHead_249L fu f) σ x0 c (nI nn) (nI k))
    unfold x_checkHead_249 fcS
    rw [if_pos (nI_le (by omega) (by omega))]
    exact xC.ok ⟨hQ.2.2.2, hC, hS⟩
  | succ d ih =>
    intro k f σ hk hf hQ h5 k5 n5 hj hC hS
    obtain ⟨f, rfl⟩ : ∃ z9, f = z9 + 1 := ⟨f - 1, by omega⟩
    show xC _ _ _ _ _ _ _ (x_checkHead_249 fu (x_checkHead_249L fu f) σ x0 c (nI nn) (nI k))
    obtain ⟨hw, hP, hL, h8⟩ := hQ
    have hx := hP.2.1.1
    have e9 := hP.2.2.2.2.2.1.1
    have hu := U2_lt P.1 (hd + 8 + 2 * k)
    unfold x_checkHead_249 x_checkHead_298 fcS
    have ep : (nI hd + 8) + 2 * nI k = nI (hd + 8 + 2 * k) := by
      rw [nI_8, show (2 : Int32) = nI 2 from rfl, pk_mul, nI_add]
    rw [if_neg (nI_ge (by omega) (by omega)), ckT_ok hx, nx_eq, e9, ep, x_u2_ok hP.2.1 (by omega), Option.bind_some, x_plain hP.1 g rg hu, ckT_ok hx, show (18 : Int32) = nI 18 from rfl, x_wrong_ok hx h8, Option.bind_some, ckN_0]
    have er := xC.er (α := Unit) (x0 := x0) (W := fun a j => wx x0 a j ∨ a = a5) (r := 18) (p := hd + 8 + 2 * k) (Q := fun _ σ' => Z8 x0 σ' ∧ C ≤ gc σ' ∧ S ≤ gs σ') (fun _ _ z => Or.inl z) hC hS
    by_cases q : plC P (fcE P hd k)
    case neg =>
      rw [ci_f q, ci_f (show ¬ plC P (U2 P.1 (hd + 8 + 2 * k)) from q)]
      exact er
    rw [ci_t q, ci_t (show plC P (U2 P.1 (hd + 8 + 2 * k)) from q)]
    have := x_h310 (fu := fu) (k249 := x_checkHead_249L fu f) (a5 := a5) (nn := nn) (k := k) (e := fcE P hd k) (p := hd + 8 + 2 * k) (E := fcE P hd) (x6 := nI nn) hP.1 g rg hx h8 h5 k5 n5 hnn (by omega) q.1 hfu hj k 0 fu (by omega) (by omega)
    rw [show x_checkHead_310L fu (x_checkHead_249L fu f) fu σ x0 c (nI nn) (nI k) (nI (hd + 8 + 2 * k)) (nI (U2 P.1 (hd + 8 + 2 * k))) (0 : Int32) = _ from this]
    by_cases q2 : ∀ j, 0 ≤ j → j < k → clT P (fcE P hd j) ≠ clT P (fcE P hd k)
    case neg =>
      rw [ci_f q2, ci_f q2]
      exact er
    rw [ci_t q2, ci_t q2]
    have f1 : Fq (fun a j => wx x0 a j ∨ a = a5) σ (gpi σ a5 k (nI (fcE P hd k))) := Fq.pi (Or.inr rfl)
    have h8' : Z8 x0 (gpi σ a5 k (nI (fcE P hd k))) := h8.pi (fun z => hx5 z.symm)
    refine xC.fr f1 (ih (k + 1) f _ (by omega) (by omega) (xQ.fr ⟨hw, hP, hL, h8⟩ f1 (fun a j _ z => ?_) h8') (gr_gpi.trans h5) (gk_gpi.trans k5) (gn_gpi.trans n5) (fun j hjk => ?_) (by rw [gc_gpi]; exact hC) (by rw [gs_gpi]; exact hS))
    · rcases z with z | z
      · exact Or.inl z
      · exact Or.inr (Or.inr (by rw [z]; exact ⟨hN5, hx5⟩))
    · rcases Nat.lt_or_ge j k with z | z
      · rw [gi_gpi_ne (Or.inr (by omega))]
        exact hj j z
      · rw [show j = k by omega]
        exact ⟨gi_gpi_eq, q.1⟩
end X
end Head
