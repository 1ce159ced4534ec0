/-! the component: frames by fields, results, has and next -/
section XRes
set_option maxRecDepth 100000
def Fq (W : Nat → Nat → Prop) (σ σ' : GS) : Prop := gx σ ≤ gx σ' ∧ gb σ' = gb σ ∧ gz σ' = gz σ ∧ (∀ a, a < gx σ → gk σ' a = gk σ a ∧ gn σ' a = gn σ a) ∧ (∀ a, a < gx σ → ∀ j, ¬ W a j → gi σ' a j = gi σ a j ∧ gl σ' a j = gl σ a j ∧ gr σ' a j = gr σ a j) ∧ (WF σ → WF σ')
theorem Fq.rf {W : Nat → Nat → Prop} {σ : GS} : Fq W σ σ := ⟨Nat.le_refl _, rfl, rfl, fun _ _ => ⟨rfl, rfl⟩, fun _ _ _ _ => ⟨rfl, rfl, rfl⟩, id⟩
theorem Fq.trw {W W2 W3 : Nat → Nat → Prop} {σ σ1 σ2 : GS} (h : Fq W σ σ1) (h2 : Fq W2 σ1 σ2) (hw : ∀ a j, a < gx σ → W a j → W3 a j) (hw2 : ∀ a j, a < gx σ → W2 a j → W3 a j) : Fq W3 σ σ2 := by
  obtain ⟨a1, a2, a3, a4, a5, a6⟩ := h
  obtain ⟨b1, b2, b3, b4, b5, b6⟩ := h2
  refine ⟨Nat.le_trans a1 b1, b2.trans a2, b3.trans a3, fun a ha => ?_, fun a ha j hn => ?_, fun q => b6 (a6 q)⟩
  · have x := a4 a ha
    have y := b4 a (by omega)
    exact ⟨y.1.trans x.1, y.2.trans x.2⟩
  · have x := a5 a ha j (fun q => hn (hw a j ha q))
    have y := b5 a (by omega) j (fun q => hn (hw2 a j ha q))
    exact ⟨y.1.trans x.1, y.2.1.trans x.2.1, y.2.2.trans x.2.2⟩
theorem Fq.tr {W : Nat → Nat → Prop} {σ σ1 σ2 : GS} (h : Fq W σ σ1) (h2 : Fq W σ1 σ2) : Fq W σ σ2 := h.trw h2 (fun _ _ _ q => q) (fun _ _ _ q => q)
theorem Fq.mo {W W2 : Nat → Nat → Prop} {σ σ' : GS} (h : Fq W σ σ') (hw : ∀ a j, a < gx σ → W a j → W2 a j) : Fq W2 σ σ' := h.trw (Fq.rf (W := W2)) hw (fun _ _ _ q => q)
theorem Fr.q {W : Nat → Prop} {σ σ' : GS} (h : Fr W σ σ') : Fq (fun a _ => W a) σ σ' := ⟨h.1, h.2.1, h.2.2.1, h.2.2.2.1, fun a ha j hj => h.2.2.2.2.1 a ha hj j, h.2.2.2.2.2⟩
theorem Fq.pi {W : Nat → Nat → Prop} {σ : GS} {a k : Nat} {v : Int32} (h : W a k) : Fq W σ (gpi σ a k v) :=
  ⟨Nat.le_refl _, rfl, rfl, fun _ _ => ⟨rfl, rfl⟩, fun b _ j hb => ⟨by
    by_cases z : b = a ∧ j = k
    · exact absurd (by rw [z.1, z.2]; exact h) hb
    · exact if_neg z, rfl, rfl⟩, id⟩
theorem Fq.pl {W : Nat → Nat → Prop} {σ : GS} {a k : Nat} {v : Int64} (h : W a k) : Fq W σ (gpl σ a k v) :=
  ⟨Nat.le_refl _, rfl, rfl, fun _ _ => ⟨rfl, rfl⟩, fun b _ j hb => ⟨rfl, by
    by_cases z : b = a ∧ j = k
    · exact absurd (by rw [z.1, z.2]; exact h) hb
    · exact if_neg z, rfl⟩, id⟩
theorem Fq.pr {W : Nat → Nat → Prop} {σ : GS} {a k : Nat} {v : Option Nat} (h : W a k) : Fq W σ (gpr σ a k v) :=
  ⟨Nat.le_refl _, rfl, rfl, fun _ _ => ⟨rfl, rfl⟩, fun b _ j hb => ⟨rfl, rfl, by
    by_cases z : b = a ∧ j = k
    · exact absurd (by rw [z.1, z.2]; exact h) hb
    · exact if_neg z⟩, id⟩
/-- writing into a new cell changes no old one -/
theorem Fq.piN {W : Nat → Nat → Prop} {σ σ1 : GS} {a k : Nat} {v : Int32} (h : Fq W σ σ1) (ha : gx σ ≤ a) : Fq W σ (gpi σ1 a k v) :=
  h.trw (Fq.pi (W := fun b _ => b = a) rfl) (fun _ _ _ q => q) (fun b _ hb q => by have q : b = a := q; omega)
theorem Fq.plN {W : Nat → Nat → Prop} {σ σ1 : GS} {a k : Nat} {v : Int64} (h : Fq W σ σ1) (ha : gx σ ≤ a) : Fq W σ (gpl σ1 a k v) :=
  h.trw (Fq.pl (W := fun b _ => b = a) rfl) (fun _ _ _ q => q) (fun b _ hb q => by have q : b = a := q; omega)
theorem Fq.prN {W : Nat → Nat → Prop} {σ σ1 : GS} {a k : Nat} {v : Option Nat} (h : Fq W σ σ1) (ha : gx σ ≤ a) : Fq W σ (gpr σ1 a k v) :=
  h.trw (Fq.pr (W := fun b _ => b = a) rfl) (fun _ _ _ q => q) (fun b _ hb q => by have q : b = a := q; omega)
theorem Fq.new {W : Nat → Nat → Prop} {σ : GS} {K n w : Nat} : Fq W σ (gnew σ K n w) := (Fr.new (W := fun _ => False)).q.mo (fun _ _ _ q => q.elim)
theorem Fq.wf {W : Nat → Nat → Prop} {σ σ' : GS} (h : Fq W σ σ') (hw : WF σ) : WF σ' := h.2.2.2.2.2 hw
theorem Fq.gk {W : Nat → Nat → Prop} {σ σ' : GS} (h : Fq W σ σ') (hw : WF σ) {a K : Nat} (hk : gk σ a = K) (hK : K ≠ 0) : gk σ' a = K := by
  rw [(h.2.2.2.1 a (hw.lt (by rw [hk]; exact hK))).1, hk]
theorem Fq.gn {W : Nat → Nat → Prop} {σ σ' : GS} (h : Fq W σ σ') {a : Nat} (ha : a < gx σ) : gn σ' a = gn σ a := (h.2.2.2.1 a ha).2
theorem Fq.gi {W : Nat → Nat → Prop} {σ σ' : GS} (h : Fq W σ σ') {a j : Nat} (ha : a < gx σ) (hn : ¬ W a j) : gi σ' a j = gi σ a j := (h.2.2.2.2.1 a ha j hn).1
theorem Fq.gl {W : Nat → Nat → Prop} {σ σ' : GS} (h : Fq W σ σ') {a j : Nat} (ha : a < gx σ) (hn : ¬ W a j) : gl σ' a j = gl σ a j := (h.2.2.2.2.1 a ha j hn).2.1
theorem Fq.gr {W : Nat → Nat → Prop} {σ σ' : GS} (h : Fq W σ σ') {a j : Nat} (ha : a < gx σ) (hn : ¬ W a j) : gr σ' a j = gr σ a j := (h.2.2.2.2.1 a ha j hn).2.2
theorem Fq.str {W : Nat → Nat → Prop} {σ σ' : GS} {t : List Nat} {s : Nat} (h : Fq W σ σ') (hw : WF σ) (hs : sS t s σ) (h1 : ∀ j, ¬ W s j) (h2 : ∀ v, Jvm.Pilot.CClassGateLaw_law_r6225_9613d7.gr σ s 0 = some v → ∀ j, ¬ W v j) : sS t s σ' := by
  obtain ⟨g1, g2, g3, v, g4, g5, g6⟩ := hs
  have ls : s < gx σ := hw.lt (by rw [g1]; decide)
  have lv : v < gx σ := hw.lt (by rw [g5]; decide)
  have es := fun j => h.2.2.2.2.1 s ls j (h1 j)
  have ev := fun j => h.2.2.2.2.1 v lv j (h2 v g4 j)
  refine ⟨h.gk hw g1 (by decide), g2, g3, v, (es 0).2.2.trans g4, h.gk hw g5 (by decide), ?_⟩
  have en := (h.2.2.2.1 v lv).2
  rcases g6 with ⟨x1, x2, x3⟩ | ⟨x1, x2, x3, x4⟩
  · exact Or.inl ⟨(es 1).1.trans x1, en.trans x2, fun k hk => ⟨(x3 k hk).1, (ev k).1.trans (x3 k hk).2⟩⟩
  · exact Or.inr ⟨(es 1).1.trans x1, en.trans x2, fun k hk => ⟨(ev _).1.trans (x3 k hk).1, (ev _).1.trans (x3 k hk).2⟩, x4⟩
/-- no fault is told -/
def Z8 (x0 : Nat) (σ : GS) : Prop := gi σ x0 8 = 0 ∧ gi σ x0 3 = 0 ∧ gi σ x0 4 = -1
theorem Z8.pi {x0 a k : Nat} {v : Int32} {σ : GS} (h : x0 ≠ a) (z : Z8 x0 σ) : Z8 x0 (gpi σ a k v) := ⟨(gi_gpi_ne (Or.inl h)).trans z.1, (gi_gpi_ne (Or.inl h)).trans z.2.1, (gi_gpi_ne (Or.inl h)).trans z.2.2⟩
theorem Z8.pk {x0 a k : Nat} {v : Int32} {σ : GS} (h : 8 ≠ k ∧ 3 ≠ k ∧ 4 ≠ k) (z : Z8 x0 σ) : Z8 x0 (gpi σ a k v) := ⟨(gi_gpi_ne (Or.inr h.1)).trans z.1, (gi_gpi_ne (Or.inr h.2.1)).trans z.2.1, (gi_gpi_ne (Or.inr h.2.2)).trans z.2.2⟩
theorem Z8.pl {x0 a k : Nat} {v : Int64} {σ : GS} (z : Z8 x0 σ) : Z8 x0 (gpl σ a k v) := ⟨gi_gpl.trans z.1, gi_gpl.trans z.2.1, gi_gpl.trans z.2.2⟩
theorem Z8.pr {x0 a k : Nat} {v : Option Nat} {σ : GS} (z : Z8 x0 σ) : Z8 x0 (gpr σ a k v) := ⟨gi_gpr.trans z.1, gi_gpr.trans z.2.1, gi_gpr.trans z.2.2⟩
theorem Z8.new {x0 K n w : Nat} {σ : GS} (h : x0 ≠ gx σ) (z : Z8 x0 σ) : Z8 x0 (gnew σ K n w) := ⟨by rw [gi_gnew, if_neg h]; exact z.1, by rw [gi_gnew, if_neg h]; exact z.2.1, by rw [gi_gnew, if_neg h]; exact z.2.2⟩
theorem Z8.fq {x0 : Nat} {W : Nat → Nat → Prop} {σ σ' : GS} (f : Fq W σ σ') (lx : x0 < gx σ) (h : ∀ j, j = 3 ∨ j = 4 ∨ j = 8 → ¬ W x0 j) (z : Z8 x0 σ) : Z8 x0 σ' := ⟨(f.gi lx (h 8 (by omega))).trans z.1, (f.gi lx (h 3 (by omega))).trans z.2.1, (f.gi lx (h 4 (by omega))).trans z.2.2⟩
/-- a fault is told -/
def xWr (x0 : Nat) (e : Nat × Nat) (σ : GS) : Prop := gi σ x0 8 = 1 ∧ gi σ x0 3 = nI e.1 ∧ gi σ x0 4 = nI e.2
def xwr (σ : GS) (x0 r p : Nat) : GS := gpi (gpi (gpi σ x0 8 1) x0 3 (nI r)) x0 4 (nI p)
theorem xwr_ok {σ : GS} {x0 r p : Nat} : xWr x0 (r, p) (xwr σ x0 r p) :=
  ⟨(gi_gpi_ne (Or.inr (by decide))).trans ((gi_gpi_ne (Or.inr (by decide))).trans gi_gpi_eq), (gi_gpi_ne (Or.inr (by decide))).trans gi_gpi_eq, gi_gpi_eq⟩
theorem x_wrong_ok {σ : GS} {x0 r p : Nat} (h1 : gk σ x0 = 1) (h8 : Z8 x0 σ) : x_wrong σ x0 (nI r) (nI p) = some (0, xwr σ x0 r p) := by
  unfold x_wrong x_wrong_0
  rw [ckT_ok h1, if_pos h8.1]
  rfl
/-- the fields of ClassGate that reading writes -/
def wx (x0 a j : Nat) : Prop := a = x0 ∧ (j = 3 ∨ j = 4 ∨ j = 6 ∨ j = 8)
theorem Fq.wr {W : Nat → Nat → Prop} {σ : GS} {x0 r p : Nat} (h : ∀ a j, wx x0 a j → W a j) : Fq W σ (xwr σ x0 r p) :=
  (Fq.pi (h _ _ ⟨rfl, by omega⟩)).tr ((Fq.pi (h _ _ ⟨rfl, by omega⟩)).tr (Fq.pi (h _ _ ⟨rfl, by omega⟩)))
/-- the file is at hand, nothing is wrong yet, reading is at p -/
def xA (F : Nat → Int32) (n x0 p : Nat) (σ : GS) : Prop := xF F n x0 σ ∧ gi σ x0 6 = nI p ∧ Z8 x0 σ
theorem xF.fr {F : Nat → Int32} {n x0 : Nat} {σ σ' : GS} {W : Nat → Nat → Prop} (h : xF F n x0 σ) (f : Fq W σ σ') (hw : WF σ) (h1 : ¬ W x0 2) (h2 : ∀ f, Jvm.Pilot.CClassGateLaw_law_r6225_9613d7.gr σ x0 2 = some f → ∀ j, ¬ W f j) : xF F n x0 σ' := by
  obtain ⟨a1, g, a2, a3, a4, a5, a6⟩ := h
  have lx : x0 < gx σ := hw.lt (by rw [a1]; decide)
  have lg : g < gx σ := hw.lt (by rw [a3]; decide)
  exact ⟨f.gk hw a1 (by decide), g, (f.gr lx h1).trans a2, f.gk hw a3 (by decide), (f.gn lg).trans a4, a5, fun i hi => (f.gi lg (h2 g a2 i)).trans (a6 i hi)⟩
theorem xF.wx {F : Nat → Int32} {n x0 : Nat} {σ σ' : GS} (h : xF F n x0 σ) (f : Fq (wx x0) σ σ') (hw : WF σ) : xF F n x0 σ' :=
  h.fr f hw (fun q => by have := q.2; omega) (fun g hg j q => by
    obtain ⟨a1, g', a2, a3, -⟩ := h
    rw [a2] at hg
    cases hg
    rw [q.1, a1] at a3
    exact absurd a3 (by decide))
theorem xF.put {F : Nat → Int32} {n x0 : Nat} {σ : GS} {j : Nat} {v : Int32} (h : xF F n x0 σ) : xF F n x0 (gpi σ x0 j v) := by
  obtain ⟨a1, g, a2, a3, a4, a5, a6⟩ := h
  refine ⟨a1, g, a2, a3, a4, a5, fun i hi => ?_⟩
  rw [gi_gpi_ne (Or.inl (fun e => by rw [e, a1] at a3; exact absurd a3 (by decide)))]
  exact a6 i hi
theorem xA.to {F : Nat → Int32} {n x0 p q : Nat} {σ : GS} (h : xA F n x0 p σ) : xA F n x0 q (gpi σ x0 6 (nI q)) :=
  ⟨h.1.put, gi_gpi_eq, h.2.2.pk (by decide)⟩
theorem x_has_ok {F : Nat → Int32} {n x0 p k : Nat} {σ : GS} (h : xA F n x0 p σ) (hn : n ≤ 20000) (hp : p ≤ n) (hk : k < 2 ^ 32) : x_has σ x0 (lN k) = if n < p + k then some (0, xwr σ x0 1 p) else some (1, σ) := by
  obtain ⟨⟨a1, g, a2, a3, a4, a5, a6⟩, h6, h8⟩ := h
  unfold x_has x_has_0 x_has_28
  rw [ckT_ok a1, a2, ckK_ok a3, a4, h6, pk_sub hp, nI_l (by omega)]
  by_cases z : n < p + k
  · rw [if_pos z, if_neg (by rw [cmp_le (by omega) (by omega)]; omega), show (1 : Int32) = nI 1 from rfl, x_wrong_ok a1 h8, Option.bind_some, if_pos rfl]
  · rw [if_neg z, if_pos (by rw [cmp_le (by omega) (by omega)]; omega)]
theorem x_next2_ok {F : Nat → Int32} {n x0 p : Nat} {σ : GS} (h : xA F n x0 p σ) (hn : n ≤ 20000) (hp : p ≤ n) : x_next2 σ x0 = if n < p + 2 then some (0, xwr σ x0 1 p) else some (nI (U2 F p), gpi σ x0 6 (nI (p + 2))) := by
  have hh := x_has_ok (k := 2) h hn hp (by omega)
  have a1 := h.1.1
  unfold x_next2 x_next2_0
  rw [ckT_ok a1, show (2 : Int64) = lN 2 from rfl, hh]
  by_cases z : n < p + 2
  · rw [if_pos z, if_pos z, Option.bind_some, if_pos rfl]
  · rw [if_neg z, if_neg z, Option.bind_some, if_neg (show ¬ (1 : Int32) = 0 by decide), ckT_ok a1, nx_eq]
    show ((x_u2 (gpi σ x0 6 (gi σ x0 6 + 2)) x0 (gi (gpi σ x0 6 (gi σ x0 6 + 2)) x0 6 - 2)).bind fun r7 => some (r7, gpi σ x0 6 (gi σ x0 6 + 2))) = _
    rw [h.2.1, nI_2, gi_gpi_eq, show nI (p + 2) - 2 = nI p from pk_sub (b := 2) (by omega), x_u2_ok h.1.put (by omega), Option.bind_some]
theorem x_next4_ok {F : Nat → Int32} {n x0 p : Nat} {σ : GS} (h : xA F n x0 p σ) (hn : n ≤ 20000) (hp : p ≤ n) : x_next4 σ x0 = if n < p + 4 then some (0, xwr σ x0 1 p) else some (lN (U4 F p), gpi σ x0 6 (nI (p + 4))) := by
  have hh := x_has_ok (k := 4) h hn hp (by omega)
  have a1 := h.1.1
  have hu := U4_lt F p
  unfold x_next4 x_next4_0
  rw [ckT_ok a1, show (4 : Int64) = lN 4 from rfl, hh]
  by_cases z : n < p + 4
  · rw [if_pos z, if_pos z, Option.bind_some, if_pos rfl]
  · rw [if_neg z, if_neg z, Option.bind_some, if_neg (show ¬ (1 : Int32) = 0 by decide), ckT_ok a1, nx_eq]
    show ((x_u4 (gpi σ x0 6 (gi σ x0 6 + 4)) x0 (gi (gpi σ x0 6 (gi σ x0 6 + 4)) x0 6 - 4)).bind fun r7 => some (r7.toInt64 &&& (4294967295 : Int64), gpi σ x0 6 (gi σ x0 6 + 4))) = _
    rw [h.2.1, nI_4, gi_gpi_eq, show nI (p + 4) - 4 = nI p from pk_sub (b := 4) (by omega), x_u4_ok h.1.put (by omega), Option.bind_some, nI_long (by omega)]
end XRes
