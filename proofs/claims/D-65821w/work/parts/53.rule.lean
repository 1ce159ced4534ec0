/-! the rules for an entry of the pool -/
section Rule
set_option maxRecDepth 100000
noncomputable def ci {α : Type} (P : Prop) (a b : α) : α := @ite α P (Classical.propDecidable P) a b
theorem ci_t {α : Type} {P : Prop} {a b : α} (h : P) : ci P a b = a := by unfold ci; rw [if_pos h]
theorem ci_f {α : Type} {P : Prop} {a b : α} (h : ¬ P) : ci P a b = b := by unfold ci; rw [if_neg h]
theorem ib_t {α : Type} {P : Prop} {a b : α} (h : P) : (if bi P = 0 then a else b) = b := by rw [bi_t h, if_neg i10]
theorem ib_f {α : Type} {P : Prop} {a b : α} (h : ¬ P) : (if bi P = 0 then a else b) = a := by rw [bi_f h, if_pos rfl]
theorem nL {a k : Nat} (ha : a < 2 ^ 31) (hk : k < 2 ^ 31) (h : ¬ a = k) : ¬ nI a = no_index (OfNat.ofNat k) := fun w => h ((nI_eq ha hk).mp w)
/-- texts of the component's constants -/
def xl (j : Nat) : List Nat := if j = 0 then [90, 67, 70, 68, 66, 83, 73, 74] else if j = 1 ∨ j = 15 then lT 10 else if j = 2 then lT 12 else if j = 13 then lT 13 else if j = 14 then lT 11 else lT (j - 3)
def xLi (N : Nat → Prop) (σ : GS) : Prop := ∀ j, j < 16 → sS (xl j) (gz σ j) σ ∧ N (gz σ j) ∧ ∀ w, gr σ (gz σ j) 0 = some w → N w
theorem xLi.fr {c : Nat} {N : Nat → Prop} {σ σ' : GS} {W : Nat → Nat → Prop} (h : xLi N σ) (f : Fq W σ σ') (hw : WF σ) (hc : gk σ c = 2) (hN : ∀ a j, W a j → wN c N a j) : xLi N σ' := by
  intro j hj
  obtain ⟨h1, h2, h3⟩ := h j hj
  have ls : gz σ j < gx σ := hw.lt (by rw [h1.1]; decide)
  have ne : ∀ {a K : Nat}, gk σ a = K → K ≠ 2 → N a → ∀ j, ¬ W a j := fun {a K} q r m j z => by
    have := (hN a j z m).1
    rw [this, hc] at q
    exact r q.symm
  have e : gz σ' = gz σ := f.2.2.1
  rw [e]
  have nW : ∀ v, gr σ (gz σ j) 0 = some v → ∀ j, ¬ W v j := by
    intro v hv
    obtain ⟨w, g4, g5, -⟩ := h1.2.2.2
    have : v = w := by
      rw [g4] at hv
      exact (Option.some.inj hv).symm
    rw [this] at hv ⊢
    exact ne g5 (by decide) (h3 w hv)
  refine ⟨f.str hw h1 (ne h1.1 (by decide) h2) nW, h2, fun w hv => h3 w ?_⟩
  rw [f.gr ls (ne h1.1 (by decide) h2 0)] at hv
  exact hv
theorem xLi.mo {N N' : Nat → Prop} {σ : GS} (h : xLi N σ) (hN : ∀ a, N a → N' a) : xLi N' σ := fun j hj => ⟨(h j hj).1, hN _ (h j hj).2.1, fun w hw => hN _ ((h j hj).2.2 w hw)⟩
theorem xLi.k {N : Nat → Prop} {σ : GS} {fu : Nat} (h : xLi N σ) (hfu : 65536 < fu) : xKI fu σ := kinds_xKI (h 0 (by omega)).1 hfu
noncomputable def rl1 (P : PD) (i : Nat) : Nat := if tgP P (paP P i) = 1 then (if tgP P i = 7 then ci (ClassS (txP P (paP P i))) 0 10 else if tgP P i = 16 then ci (placesS (txP P (paP P i)) ≠ none) 0 14 else 0) else 9
noncomputable def rl12 (P : PD) (i : Nat) : Nat := if tgP P (paP P i) = 1 ∧ tgP P (pbP P i) = 1 then ci (PlainS (txP P (paP P i)) 0 (txP P (paP P i)).length False ∧ (FieldS (txP P (pbP P i)) ∨ placesS (txP P (pbP P i)) ≠ none)) 0 11 else 9
noncomputable def rl9 (P : PD) (i : Nat) : Nat := ci (isCl P (paP P i) ∧ isPr P (pbP P i)) (if tgP P i = 9 then ci (FieldS (tyP P i)) 0 12 else ci (placesS (tyP P i) ≠ none ∧ ((tgP P i = 10 ∧ nmP P i = lT 10 ∧ ch (tyP P i) ((tyP P i).length - 1) = 86) ∨ ¬ AnglesS (nmP P i))) 0 12) 9
/-- a method handle's kind fits what it names -/
def hdP (P : PD) (i : Nat) : Prop := 1 ≤ paP P i ∧ paP P i ≤ 9 ∧ (if paP P i ≤ 4 then tgP P (pbP P i) = 9 else (if paP P i = 5 ∨ paP P i = 8 then tgP P (pbP P i) = 10 else if paP P i = 9 then tgP P (pbP P i) = 11 else tgP P (pbP P i) = 10 ∨ (tgP P (pbP P i) = 11 ∧ 52 ≤ mjP P)) ∧ (nmP P (pbP P i) = lT 10 ↔ paP P i = 8))
noncomputable def rl15 (P : PD) (i : Nat) : Nat := if tgP P (pbP P i) = 0 then 9 else ci (9 ≤ tgP P (pbP P i) ∧ tgP P (pbP P i) ≤ 11 ∧ ¬ (isCl P (paP P (pbP P i)) ∧ isPr P (pbP P (pbP P i)))) 9 (ci (hdP P i) 0 13)
noncomputable def rl17 (P : PD) (i : Nat) : Nat := ci (isPr P (pbP P i)) (ci ((if tgP P i = 17 then FieldS (tyP P i) else placesS (tyP P i) ≠ none) ∧ ¬ AnglesS (nmP P i)) 0 14) 9
noncomputable def ruleS (P : PD) (i : Nat) : Nat := if oneT (tgP P i) then rl1 P i else if tgP P i = 12 then rl12 P i else if 9 ≤ tgP P i ∧ tgP P i ≤ 11 then rl9 P i else if tgP P i = 15 then rl15 P i else if tgP P i = 17 ∨ tgP P i = 18 then rl17 P i else 0
variable {P : PD} {c lo fu i : Nat} {N : Nat → Prop} {σ : GS}
theorem x_rl1 (h : xPc P c lo N σ) (hL : xLi N σ) (g : PG P) (hfu : 131072 < fu) (ht : oneT (tgP P i)) : x_ruleOfEntry_52 fu σ c (nI (tgP P i)) (nI (paP P i)) = some (nI (rl1 P i)) := by
  have hK := hL.k (fu := fu) (by omega)
  have hl := tgP_lt P i
  unfold x_ruleOfEntry_52 rl1 x_ruleOfEntry_109 x_ruleOfEntry_149
  rw [x_textAt_ok h g (paP_lt P i), Option.bind_some]
  by_cases h1 : tgP P (paP P i) = 1
  case neg =>
    rw [if_neg h1, if_pos rfl, if_neg h1]
    rfl
  obtain ⟨s, s1, s2⟩ := x_text h g h1
  have hT := s2.toxT
  rw [if_pos h1, if_pos h1, s1, if_neg (by simp), ckK_ok s2.1]
  by_cases h7 : tgP P i = 7
  · rw [if_pos h7, if_pos (by rw [h7]; rfl), hT.2.2.2.1, Option.bind_some]
    have hlen := hT.2.1
    have nm : ((x_isName fu σ s (0 : Int32) (nI (txP P (paP P i)).length)).bind fun r6 => if r6 = 0 then some (10 : Int32) else some (0 : Int32)) = some (nI (ci (nmS (txP P (paP P i)) (txP P (paP P i)).length 0 0) 0 10)) := by
      rw [show (0 : Int32) = nI 0 from rfl, x_isName_ok hT (Nat.zero_le _) (Nat.le_refl _) (by omega), Option.bind_some, Nat.sub_zero]
      by_cases q : nmS (txP P (paP P i)) (txP P (paP P i)).length 0 0
      · rw [bi_t q, ci_t q]
        rfl
      · rw [bi_f q, ci_f q]
        rfl
    by_cases h0 : (txP P (paP P i)).length = 0
    · rw [if_pos (show nI (txP P (paP P i)).length ≤ 0 by rw [h0]; decide), ckK_ok s2.1, hT.2.2.2.1, Option.bind_some, nm]
      refine congrArg some (congrArg nI ?_)
      have e : ClassS (txP P (paP P i)) ↔ nmS (txP P (paP P i)) (txP P (paP P i)).length 0 0 := by
        unfold ClassS
        constructor
        · rintro (q | q)
          · have := q.1
            omega
          · exact q.2
        · exact fun q => Or.inr ⟨fun w => by have := w.1; omega, q⟩
      rw [propext e]
    · rw [if_neg (show ¬ nI (txP P (paP P i)).length ≤ 0 from nI_ge (a := 0) (by omega) (by omega)), show (0 : Int32) = nI 0 from rfl, hT.2.2.2.2 0 (by omega), Option.bind_some]
      have hc := hT.2.2.1 0
      by_cases h91 : ch (txP P (paP P i)) 0 = 91
      · rw [if_pos (by rw [h91]; rfl), x_isFieldType_ok hT hK (by omega), Option.bind_some]
        have e : ClassS (txP P (paP P i)) ↔ FieldS (txP P (paP P i)) := by
          unfold ClassS
          constructor
          · rintro (q | q)
            · exact q.2.2
            · exact absurd ⟨by omega, h91⟩ q.1
          · exact fun q => Or.inl ⟨by omega, h91, q⟩
        rw [propext e]
        by_cases q : FieldS (txP P (paP P i))
        · rw [bi_t q, ci_t q]
          rfl
        · rw [bi_f q, ci_f q]
          rfl
      · rw [if_neg (nL (k := 91) (by omega) (by omega) h91), ckK_ok s2.1, hT.2.2.2.1, Option.bind_some]
        rw [show nI 0 = (0 : Int32) from rfl, nm]
        refine congrArg some (congrArg nI ?_)
        have e : ClassS (txP P (paP P i)) ↔ nmS (txP P (paP P i)) (txP P (paP P i)).length 0 0 := by
          unfold ClassS
          constructor
          · rintro (q | q)
            · exact absurd q.2.1 h91
            · exact q.2
          · exact fun q => Or.inr ⟨fun w => h91 w.2, q⟩
        rw [propext e]
  · rw [if_neg h7, if_neg (nL (k := 7) (by omega) (by omega) h7)]
    by_cases h16 : tgP P i = 16
    · rw [if_pos h16, if_pos (by rw [h16]; rfl), ckR_ok, x_isMethodType_ok hT hK (by omega), Option.bind_some]
      by_cases q : placesS (txP P (paP P i)) ≠ none
      · rw [bi_t q, ci_t q]
        rfl
      · rw [bi_f q, ci_f q]
        rfl
    · rw [if_neg h16, if_neg (nL (k := 16) (by omega) (by omega) h16)]
      rfl
end Rule
