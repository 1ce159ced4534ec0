/-! the component: passing over members and attributes -/
section XTail
set_option maxRecDepth 100000
/-- nothing but some numbers of the ClassGate has changed -/
def sm (x0 : Nat) (L : List Nat) (σ σ' : GS) : Prop := gk σ' = gk σ ∧ gn σ' = gn σ ∧ gl σ' = gl σ ∧ gr σ' = gr σ ∧ gx σ' = gx σ ∧ gc σ' = gc σ ∧ gs σ' = gs σ ∧ gb σ' = gb σ ∧ gz σ' = gz σ ∧ ∀ a j, ¬ (a = x0 ∧ j ∈ L) → gi σ' a j = gi σ a j
theorem sm.rf {x0 : Nat} {L : List Nat} {σ : GS} : sm x0 L σ σ := ⟨rfl, rfl, rfl, rfl, rfl, rfl, rfl, rfl, rfl, fun _ _ _ => rfl⟩
theorem sm.tr {x0 : Nat} {L : List Nat} {σ σ1 σ2 : GS} (h : sm x0 L σ σ1) (k : sm x0 L σ1 σ2) : sm x0 L σ σ2 := by
  obtain ⟨a1, a2, a3, a4, a5, a6, a7, a8, a9, a10⟩ := h
  obtain ⟨b1, b2, b3, b4, b5, b6, b7, b8, b9, b10⟩ := k
  exact ⟨b1.trans a1, b2.trans a2, b3.trans a3, b4.trans a4, b5.trans a5, b6.trans a6, b7.trans a7, b8.trans a8, b9.trans a9, fun a j z => (b10 a j z).trans (a10 a j z)⟩
theorem sm.mo {x0 : Nat} {L L' : List Nat} {σ σ1 : GS} (h : sm x0 L σ σ1) (hl : ∀ k, k ∈ L → k ∈ L') : sm x0 L' σ σ1 := by
  obtain ⟨a1, a2, a3, a4, a5, a6, a7, a8, a9, a10⟩ := h
  exact ⟨a1, a2, a3, a4, a5, a6, a7, a8, a9, fun a j z => a10 a j (fun q => z ⟨q.1, hl j q.2⟩)⟩
theorem sm.put {x0 : Nat} {L : List Nat} {σ : GS} {k : Nat} {v : Int32} (h : k ∈ L) : sm x0 L σ (gpi σ x0 k v) :=
  ⟨rfl, rfl, rfl, rfl, rfl, rfl, rfl, rfl, rfl, fun a j z => if_neg (fun q : a = x0 ∧ j = k => z ⟨q.1, q.2 ▸ h⟩)⟩
theorem sm.wr {x0 : Nat} {L : List Nat} {σ : GS} {r p : Nat} (h3 : 3 ∈ L) (h4 : 4 ∈ L) (h8 : 8 ∈ L) : sm x0 L σ (xwr σ x0 r p) := (sm.put h8).tr ((sm.put h3).tr (sm.put h4))
theorem sm.xF {x0 : Nat} {L : List Nat} {σ σ1 : GS} {F : Nat → Int32} {n : Nat} (h : sm x0 L σ σ1) (hF : xF F n x0 σ) : xF F n x0 σ1 := by
  obtain ⟨a1, g, a2, a3, a4, a5, a6⟩ := hF
  obtain ⟨b1, b2, b3, b4, b5, b6, b7, b8, b9, b10⟩ := h
  rw [← b1] at a1 a3
  refine ⟨a1, g, by rw [b4]; exact a2, a3, by rw [b2]; exact a4, a5, fun i hi => ?_⟩
  rw [b10 g i (fun q => by rw [q.1, a1] at a3; exact absurd a3 (by decide))]
  exact a6 i hi
theorem sm.fq {x0 : Nat} {L : List Nat} {σ σ1 : GS} (h : sm x0 L σ σ1) : Fq (fun a j => a = x0 ∧ j ∈ L) σ σ1 := by
  obtain ⟨b1, b2, b3, b4, b5, b6, b7, b8, b9, b10⟩ := h
  refine ⟨by omega, b8, b9, fun a _ => by rw [b1, b2]; exact ⟨rfl, rfl⟩, fun a _ j z => by rw [b3, b4]; exact ⟨b10 a j z, rfl, rfl⟩, fun w => ?_⟩
  unfold WF
  rw [b1, b5, b8]
  exact w
/-- where reading ends; a fault, or the place -/
def xT4 {α β : Type} (x0 : Nat) (L : List Nat) (E : FE α) (Q : α → GS → Prop) (fe fo : GS → β) (σ : GS) (o : Option β) : Prop := match E with
  | .error e => ∃ σ', o = some (fe σ') ∧ xWr x0 e σ' ∧ sm x0 L σ σ'
  | .ok a => ∃ σ', o = some (fo σ') ∧ Q a σ' ∧ sm x0 L σ σ'
theorem xT4.fr {α β : Type} {x0 : Nat} {L : List Nat} {E : FE α} {Q : α → GS → Prop} {fe fo : GS → β} {σ σ1 : GS} {o : Option β} (h : sm x0 L σ σ1) (k : xT4 x0 L E Q fe fo σ1 o) : xT4 x0 L E Q fe fo σ o := by
  cases E with
  | error e =>
    obtain ⟨s, k1, k2, k3⟩ := k
    exact ⟨s, k1, k2, h.tr k3⟩
  | ok a =>
    obtain ⟨s, k1, k2, k3⟩ := k
    exact ⟨s, k1, k2, h.tr k3⟩
/-- a fault is told already: what follows keeps it -/
theorem xT4.er {α β : Type} {x0 : Nat} {L : List Nat} {Q : α → GS → Prop} {fe fo : GS → β} {σ : GS} {r p : Nat} {o : Option β} (h3 : 3 ∈ L) (h4 : 4 ∈ L) (h8 : 8 ∈ L) (h : o = some (fe (xwr σ x0 r p))) : xT4 x0 L (.error (r, p) : FE α) Q fe fo σ o :=
  ⟨_, h, xwr_ok, sm.wr h3 h4 h8⟩
theorem xwr8 {σ : GS} {x0 r p : Nat} : gi (xwr σ x0 r p) x0 8 = 1 := xwr_ok.1
theorem x_pa_loop {F : Nat → Int32} {n x0 fu : Nat} (hn : n ≤ 20000) : ∀ (k f p i : Nat) (σ : GS), k < f → i + k < 2 ^ 31 → p ≤ n → xA F n x0 p σ → xT4 x0 [3, 4, 6, 8] (skA F n k p) (fun q σ' => xA F n x0 q σ' ∧ q ≤ n) id id σ (x_passAttributes_7L fu f σ x0 (nI (i + k)) (nI i)) := by
  intro k
  induction k with
  | zero =>
    intro f p i σ hf hi hp hA
    obtain ⟨f, rfl⟩ : ∃ z9, f = z9 + 1 := ⟨f - 1, by omega⟩
    show xT4 _ _ _ _ _ _ σ (x_passAttributes_7 fu (x_passAttributes_7L fu f) σ x0 (nI (i + 0)) (nI i))
    unfold x_passAttributes_7
    rw [if_pos (nI_le (by omega) (by omega))]
    exact ⟨σ, rfl, ⟨hA, hp⟩, sm.rf⟩
  | succ k ih =>
    intro f p i σ hf hi hp hA
    obtain ⟨f, rfl⟩ : ∃ z9, f = z9 + 1 := ⟨f - 1, by omega⟩
    show xT4 _ _ _ _ _ _ σ (x_passAttributes_7 fu (x_passAttributes_7L fu f) σ x0 (nI (i + (k + 1))) (nI i))
    -- once a fault is told, the loop ends
    have out : ∀ σ1 : GS, gi σ1 x0 8 = 1 → gk σ1 x0 = 1 → x_passAttributes_66 fu (x_passAttributes_7L fu f) σ1 x0 (nI (i + (k + 1))) (nI i) = some σ1 := by
      intro σ1 g8 g1
      unfold x_passAttributes_66
      rw [nx_eq, nI_1]
      obtain ⟨f, rfl⟩ : ∃ z9, f = z9 + 1 := ⟨f - 1, by omega⟩
      show x_passAttributes_7 fu (x_passAttributes_7L fu f) σ1 x0 (nI (i + (k + 1))) (nI (i + 1)) = _
      unfold x_passAttributes_7
      rw [ckT_ok g1, g8, if_neg (show ¬ (1 : Int32) = 0 by decide)]
      split <;> rfl
    have out39 : ∀ (σ1 : GS) (t0 : Int64), gi σ1 x0 8 = 1 → gk σ1 x0 = 1 → x_passAttributes_39 fu (x_passAttributes_7L fu f) σ1 x0 (nI (i + (k + 1))) (nI i) t0 = some σ1 := by
      intro σ1 t0 g8 g1
      unfold x_passAttributes_39
      rw [ckT_ok g1, g8, if_neg (show ¬ (1 : Int32) = 0 by decide)]
      exact out σ1 g8 g1
    have a1 := hA.1.1
    unfold x_passAttributes_7
    rw [if_neg (nI_ge (by omega) (by omega)), ckT_ok a1, if_pos hA.2.2.1, x_next2_ok hA hn hp]
    unfold skA
    by_cases z1 : n < p + 2
    · rw [if_pos z1, Option.bind_some, show itS n p 2 = .error (1, p) from if_pos z1]
      refine xT4.er (by decide) (by decide) (by decide) ?_
      show (ckT (xwr σ x0 1 p) 1 x0 _) = _
      rw [ckT_ok (show gk (xwr σ x0 1 p) x0 = 1 from a1), show gi (xwr σ x0 1 p) x0 8 = 1 from xwr8, if_neg (show ¬ (1 : Int32) = 0 by decide), out39 _ _ (by exact xwr8) (by exact a1)]
      rfl
    rw [if_neg z1, Option.bind_some, show itS n p 2 = .ok () from if_neg z1, eb_ok]
    refine xT4.fr (sm.put (k := 6) (v := nI (p + 2)) (by decide)) ?_
    have hA1 : xA F n x0 (p + 2) (gpi σ x0 6 (nI (p + 2))) := hA.to
    show xT4 _ _ _ _ _ _ _ (ckT (gpi σ x0 6 (nI (p + 2))) 1 x0 _)
    rw [ckT_ok (show gk (gpi σ x0 6 (nI (p + 2))) x0 = 1 from a1), if_pos hA1.2.2.1, x_next4_ok hA1 hn (by omega)]
    by_cases z2 : n < p + 2 + 4
    · rw [if_pos z2, Option.bind_some, show itS n (p + 2) 4 = .error (1, p + 2) from if_pos z2, out39 _ _ (by exact xwr8) (by exact a1)]
      exact xT4.er (by decide) (by decide) (by decide) rfl
    rw [if_neg z2, Option.bind_some, show itS n (p + 2) 4 = .ok () from if_neg z2, eb_ok]
    refine xT4.fr (sm.put (k := 6) (v := nI (p + 2 + 4)) (by decide)) ?_
    have hA2 : xA F n x0 (p + 6) (gpi (gpi σ x0 6 (nI (p + 2))) x0 6 (nI (p + 2 + 4))) := hA1.to
    have hu := U4_lt F (p + 2)
    unfold x_passAttributes_39
    show xT4 _ _ _ _ _ _ _ (ckT (gpi (gpi σ x0 6 (nI (p + 2))) x0 6 (nI (p + 2 + 4))) 1 x0 _)
    rw [ckT_ok hA2.1.1, if_pos hA2.2.2.1]
    show xT4 _ _ _ _ _ _ _ ((x_has (gpi (gpi σ x0 6 (nI (p + 2))) x0 6 (nI (p + 2 + 4))) x0 (lN (U4 F (p + 2)))).bind _)
    rw [x_has_ok hA2 hn (by omega) (by omega)]
    by_cases z3 : n < p + 6 + U4 F (p + 2)
    · rw [if_pos z3, Option.bind_some, show itS n (p + 6) (U4 F (p + 2)) = .error (1, p + 6) from if_pos z3, if_pos rfl, out _ (by exact xwr8) (by exact a1)]
      exact xT4.er (by decide) (by decide) (by decide) rfl
    rw [if_neg z3, Option.bind_some, show itS n (p + 6) (U4 F (p + 2)) = .ok () from if_neg z3, eb_ok, if_neg (show ¬ (1 : Int32) = 0 by decide)]
    show xT4 _ _ _ _ _ _ _ (ckT (gpi (gpi σ x0 6 (nI (p + 2))) x0 6 (nI (p + 2 + 4))) 1 x0 (nx (gpi (gpi (gpi σ x0 6 (nI (p + 2))) x0 6 (nI (p + 2 + 4))) x0 6 (gi (gpi (gpi σ x0 6 (nI (p + 2))) x0 6 (nI (p + 2 + 4))) x0 6 + (lN (U4 F (p + 2))).toInt32)) _))
    rw [ckT_ok hA2.1.1, hA2.2.1, lN_i', nI_add, nx_eq]
    refine xT4.fr (sm.put (k := 6) (v := nI (p + 6 + U4 F (p + 2))) (by decide)) ?_
    unfold x_passAttributes_66
    rw [nx_eq, nI_1]
    have := ih f (p + 6 + U4 F (p + 2)) (i + 1) (gpi (gpi (gpi σ x0 6 (nI (p + 2))) x0 6 (nI (p + 2 + 4))) x0 6 (nI (p + 6 + U4 F (p + 2)))) (by omega) (by omega) (by omega) hA2.to
    rw [show i + 1 + k = i + (k + 1) by omega] at this
    exact this
theorem x_pass_ok {F : Nat → Int32} {n x0 fu p : Nat} {σ : GS} (hn : n ≤ 20000) (hfu : 65536 < fu) (hp : p ≤ n) (hA : xA F n x0 p σ) : xT4 x0 [3, 4, 6, 8] (attrS F n p) (fun q σ' => xA F n x0 q σ' ∧ q ≤ n) id id σ (x_passAttributes fu σ x0) := by
  unfold x_passAttributes x_passAttributes_0 attrS
  rw [ckT_ok hA.1.1, x_next2_ok hA hn hp]
  by_cases z1 : n < p + 2
  · rw [if_pos z1, Option.bind_some, show itS n p 2 = .error (1, p) from if_pos z1]
    refine xT4.er (by decide) (by decide) (by decide) ?_
    obtain ⟨f, rfl⟩ : ∃ z9, fu = z9 + 1 := ⟨fu - 1, by omega⟩
    show x_passAttributes_7 (f + 1) (x_passAttributes_7L (f + 1) f) (xwr σ x0 1 p) x0 0 0 = _
    unfold x_passAttributes_7
    rw [if_pos (by decide)]
    rfl
  rw [if_neg z1, Option.bind_some, show itS n p 2 = .ok () from if_neg z1, eb_ok]
  refine xT4.fr (sm.put (k := 6) (v := nI (p + 2)) (by decide)) ?_
  have hu := U2_lt F p
  have := x_pa_loop (F := F) (n := n) (x0 := x0) (fu := fu) hn (U2 F p) fu (p + 2) 0 (gpi σ x0 6 (nI (p + 2))) (by omega) (by omega) (by omega) hA.to
  rw [Nat.zero_add] at this
  exact this
end XTail
