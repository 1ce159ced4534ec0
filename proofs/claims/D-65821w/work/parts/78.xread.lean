/-! read: the component -/
section XRead
set_option maxRecDepth 100000
variable {P : PD} {x0 c lo hd fa fu : Nat} {N : Nat → Prop} {σ : GS}
theorem pS.mo {N' : Nat → Prop} {d : List Nat} {s : Nat} (h : pS N d s σ) (hN : ∀ a, N a → N' a) : pS N' d s σ := ⟨h.1, hN _ h.2.1, fun w hw => hN _ (h.2.2 w hw)⟩
theorem xFs.mo {N' : Nat → Prop} {nn : Nat} {M : Nat → MR} (h : xFs P N c nn M σ) (hN : ∀ a, N a → N' a) : xFs P N' c nn M σ := by
  obtain ⟨ff, a1, a2, a3, a4⟩ := h
  refine ⟨ff, a1, a2, a3, fun j hj => ?_⟩
  obtain ⟨f, b1, b2, b3, ⟨s, b4, b5⟩, t, b6, b7⟩ := a4 j hj
  exact ⟨f, b1, b2, b3, ⟨s, b4, b5.mo hN⟩, t, b6, b7.mo hN⟩
theorem xMs.mo {N' : Nat → Prop} {nn B : Nat} {M : Nat → MR} {T : Nat → MR → GS → Prop} (h : xMs P N c nn B M T σ) (hN : ∀ a, N a → N' a) : xMs P N' c nn B M T σ := by
  obtain ⟨mm, a1, a2, a3, a4⟩ := h
  refine ⟨mm, a1, a2, a3, fun j hj => ?_⟩
  obtain ⟨f, b1, ⟨b2, b3, b3c, ⟨s, b4, b5⟩, t, b6, b7⟩, b8⟩ := a4 j hj
  exact ⟨f, b1, ⟨b2, b3, b3c, ⟨s, b4, b5.mo hN⟩, t, b6, b7.mo hN⟩, b8⟩
theorem xMs.fr {nn B : Nat} {M : Nat → MR} {T : Nat → MR → GS → Prop} {σ' : GS} {W : Nat → Nat → Prop} (h : xMs P N c nn B M T σ) (f : Fq W σ σ') (hw : WF σ) (hc : gk σ c = 2) (h1 : ¬ W c 13) (h4 : ∀ a j, gk σ a = 4 → j ≤ 13 → ¬ W a j) (h2 : ∀ a j, gk σ a = 107 ∨ gk σ a = 100 ∨ (gk σ a = 101 ∧ B < a) → ¬ W a j) (hN : ∀ a j, N a → gk σ a = 6 ∨ gk σ a = 101 → ¬ W a j) (hT : ∀ m r, gk σ m = 4 → B < m → T m r σ → T m r σ') : xMs P N c nn B M T σ' := by
  obtain ⟨mm, ⟨a1, a1l⟩, a2, a3, a4⟩ := h
  have lc : c < gx σ := hw.lt (by rw [hc]; decide)
  have lf : mm < gx σ := hw.lt (by rw [a2]; decide)
  refine ⟨mm, ⟨(f.gr lc h1).trans a1, a1l⟩, f.gk hw a2 (by decide), (f.gn lf).trans a3, fun j hj => ?_⟩
  obtain ⟨u, ⟨b1, b1l⟩, b2, b3⟩ := a4 j hj
  exact ⟨u, ⟨(f.gr lf (h2 mm j (Or.inl a2))).trans b1, b1l⟩, b2.fr f hw (fun a i ha hi => h4 a i ha hi) (fun a i ha => h2 a i (ha.elim (fun z => Or.inr (Or.inl z)) (fun z => Or.inr (Or.inr ⟨z.1, by omega⟩)))) hN, hT u (M j) b2.1.1 (by omega) b3⟩
theorem xLi.fr2 {σ' : GS} {W : Nat → Nat → Prop} (h : xLi N σ) (f : Fq W σ σ') (hw : WF σ) (hN : ∀ a j, N a → ¬ W a j) : xLi N σ' := by
  intro j hj
  have := pS.fr (h j hj) f hw (fun a i m _ => hN a i m)
  rw [show gz σ' = gz σ from f.2.2.1]
  exact this
/-- a class that the component keeps -/
def xKp (T : Nat → MR → GS → Prop) (F : Nat → Int32) (n : Nat) (K : CR) (c lo B : Nat) (N : Nat → Prop) (σ : GS) : Prop := xPc (F, n, K.1.1, K.1.2.1) c lo N σ ∧ xH (F, n, K.1.1, K.1.2.1) c K.1.2.2.1 σ ∧ xFs (F, n, K.1.1, K.1.2.1) N c (U2 F K.1.2.2.2.1) K.2.1 σ ∧ xMs (F, n, K.1.1, K.1.2.1) N c (U2 F K.1.2.2.2.2.1) B K.2.2.1 T σ ∧ xI3 F c (U2 F K.1.2.2.1) K.2.2.2 σ
theorem xI3.fr {F : Nat → Int32} {fl : Nat} {a : Nat → Nat} {σ' : GS} {W : Nat → Nat → Prop} (h : xI3 F c fl a σ) (f : Fq W σ σ') (hw : WF σ) (hc : gk σ c = 2) (h1 : ∀ j, ¬ W c j) (h2 : ∀ b j, gk σ b = 100 ∨ gk σ b = 108 → ¬ W b j) : xI3 F c fl a σ' := by
  obtain ⟨⟨b0, b1⟩, ⟨c1, c2, c3, c4, c5, c6, c7⟩, h5⟩ := h
  have lc : c < gx σ := hw.lt (by rw [hc]; decide)
  have st : ∀ {j : Nat} {w : Int32}, gi σ c j = w → gi σ' c j = w := fun e => (f.gi lc (h1 _)).trans e
  exact ⟨⟨st b0, b1⟩, ⟨st c1, st c2, st c3, st c4, st c5, st c6, st c7⟩, h5.fr f hw hc (h1 21) h2⟩
theorem xKp.fr {T : Nat → MR → GS → Prop} {F : Nat → Int32} {n : Nat} {K : CR} {B : Nat} {σ' : GS} {W : Nat → Nat → Prop} (h : xKp T F n K c lo B N σ) (f : Fq W σ σ') (hw : WF σ) (hN : ∀ a j, N a → ¬ W a j) (h3 : ∀ a j, gk σ a = 3 ∨ gk σ a = 106 ∨ gk σ a = 107 ∨ gk σ a = 100 ∨ gk σ a = 108 ∨ (gk σ a = 101 ∧ B < a) → ¬ W a j) (h4 : ∀ a j, gk σ a = 4 → j ≤ 13 → ¬ W a j) (hT : ∀ m r, gk σ m = 4 → B < m → T m r σ → T m r σ') : xKp T F n K c lo B N σ' := by
  obtain ⟨a1, a2, a3, a4, a5⟩ := h
  have hc := a1.1.1
  have nc : ∀ j, ¬ W c j := fun j => hN c j a1.2.2.2.2.1.1
  obtain ⟨q0, q3, q4, u, q5, q6, q7⟩ := a2
  have lc : c < gx σ := hw.lt (by rw [hc]; decide)
  have lu : u < gx σ := hw.lt (by rw [q6]; decide)
  exact ⟨a1.fr f hw (fun a j z m => absurd z (hN a j m)), ⟨(f.gi lc (nc _)).trans q0, (f.gi lc (nc _)).trans q3, (f.gi lc (nc _)).trans q4, u, (f.gr lc (nc _)).trans q5, f.gk hw q6 (by decide), (f.gn lu).trans q7⟩, a3.fr f hw hc (nc 12) (fun a j z => h3 a j (by omega)) (fun a j m _ => hN a j m), a4.fr f hw hc (nc 13) h4 (fun a j z => h3 a j (by omega)) (fun a j m _ => hN a j m) hT, a5.fr f hw hc nc (fun a j z => h3 a j (by omega))⟩
theorem xKp.mo {T : Nat → MR → GS → Prop} {F : Nat → Int32} {n : Nat} {K : CR} {B : Nat} {N' : Nat → Prop} (h : xKp T F n K c lo B N σ) (hN : ∀ a, N a → N' a) : xKp T F n K c lo B N' σ := ⟨h.1.mo hN, h.2.1, h.2.2.1.mo hN, h.2.2.2.1.mo hN, h.2.2.2.2⟩
/-- what read may change -/
def wr (x0 b v a j : Nat) : Prop := (a = b ∨ a = v) ∨ (a = x0 ∧ 2 ≤ j ∧ j ≤ 10)
def xT0 (f : Nat) (_ : MR) (σ : GS) : Prop := gi σ f 14 = 0
def xRd (F : Nat → Int32) (n x0 b v cm C S : Nat) (E : FE CR) (σ : GS) (o : Option (Int32 × GS)) : Prop := ∃ σ' v' t' f, (bS t' b v' σ' ∧ (v' = v ∨ gx σ ≤ v') ∧ Fq (wr x0 b v) σ σ' ∧ C ≤ gc σ' ∧ S ≤ gs σ' + 2 * gn σ' v') ∧ (gr σ' x0 2 = some f ∧ gk σ' f = 101 ∧ gn σ' f = 0 ∧ gx σ ≤ f ∧ f ≠ v') ∧ match E with
  | .error er => o = some (nI er.1, σ') ∧ gi σ' x0 4 = nI er.2 ∧ gr σ' x0 5 = gr σ x0 5
  | .ok K => o = some (0, σ') ∧ gi σ' x0 4 = -1 ∧ ∃ c lo B, gr σ' x0 5 = some c ∧ (v' < B ∧ cm < B) ∧ FO F n K.1 ∧ xKp xT0 F n K c lo B (nN x0 b v' cm σ') σ'
theorem x_read_end {F : Nat → Int32} {n b v cm C S : Nat} {σ1 : GS} {v' : Nat} {t' : List Nat} (hw : WF σ1) (hx : gk σ1 x0 = 1) (hB : bS t' b v' σ1) (hv : v' = v ∨ gx σ ≤ v') (f1 : Fq (wr x0 b v) σ σ1) (hC : C + 1 ≤ gc σ1) (hS : S ≤ gs σ1 + 2 * gn σ1 v') (er : Nat × Nat) (hwr : xWr x0 er σ1) (h5 : gr σ1 x0 5 = gr σ x0 5) {x1 : Option Nat} : xRd F n x0 b v cm C S (.error er) σ (x_read_63 fu σ1 x0 x1) := by
  have lx : x0 < gx σ1 := hw.lt (by rw [hx]; decide)
  have lv : v' < gx σ1 := hw.lt (by rw [hB.2.2.1]; decide)
  have hx1 := f1.1
  unfold x_read_63 x_read_64 x_read_81
  rw [nA_step0 (by omega) hx (by omega), if_pos rfl]
  have f2 : Fq (fun a j => a = x0 ∧ j = 2) σ1 (nA σ1 101 0 x0 2) := fq_nA ⟨rfl, rfl⟩
  obtain ⟨B2, nv2⟩ := hB.fr f2 hw (fun j z => by have := hB.1; rw [z.1, hx] at this; exact absurd this (by decide)) (fun j z => by have := hB.2.2.1; rw [z.1, hx] at this; exact absurd this (by decide))
  rw [ckT_ok (by rw [gk_nA, if_neg (by omega)]; exact hx)]
  refine ⟨nA σ1 101 0 x0 2, v', t', gx σ1, ⟨B2, hv, f1.trw f2 (fun _ _ _ z => z) (fun a j _ z => Or.inr ⟨z.1, by have := z.2; omega⟩), by rw [gc_nA]; omega, by rw [gs_nA, nv2]; omega⟩, ⟨by rw [gr_nA, if_pos ⟨rfl, rfl⟩], by rw [gk_nA, if_pos rfl], by rw [gn_nA, if_pos rfl], by omega, by omega⟩, ?_, ?_, ?_⟩
  · rw [gi_nA, if_neg (by omega), hwr.2.1]
  · rw [gi_nA, if_neg (by omega), hwr.2.2]
  · rw [gr_nA, if_neg (fun z => by have := z.2; omega), if_neg (by omega), h5]
end XRead
