/-! the abstract heap: what a change leaves -/
section Frame
set_option maxRecDepth 100000
theorem gk_gpi {σ : GS} {a k b : Nat} {v : Int32} : gk (gpi σ a k v) b = gk σ b := rfl
theorem gn_gpi {σ : GS} {a k b : Nat} {v : Int32} : gn (gpi σ a k v) b = gn σ b := rfl
theorem gi_gpi {σ : GS} {a k b j : Nat} {v : Int32} : gi (gpi σ a k v) b j = if b = a ∧ j = k then v else gi σ b j := rfl
theorem gl_gpi {σ : GS} {a k b j : Nat} {v : Int32} : gl (gpi σ a k v) b j = gl σ b j := rfl
theorem gr_gpi {σ : GS} {a k b j : Nat} {v : Int32} : gr (gpi σ a k v) b j = gr σ b j := rfl
theorem gx_gpi {σ : GS} {a k : Nat} {v : Int32} : gx (gpi σ a k v) = gx σ := rfl
theorem gc_gpi {σ : GS} {a k : Nat} {v : Int32} : gc (gpi σ a k v) = gc σ := rfl
theorem gs_gpi {σ : GS} {a k : Nat} {v : Int32} : gs (gpi σ a k v) = gs σ := rfl
theorem gb_gpi {σ : GS} {a k : Nat} {v : Int32} : gb (gpi σ a k v) = gb σ := rfl
theorem gz_gpi {σ : GS} {a k b : Nat} {v : Int32} : gz (gpi σ a k v) b = gz σ b := rfl
theorem gi_gpi_eq {σ : GS} {a k : Nat} {v : Int32} : gi (gpi σ a k v) a k = v := if_pos ⟨rfl, rfl⟩
theorem gi_gpi_ne {σ : GS} {a k b j : Nat} {v : Int32} (h : b ≠ a ∨ j ≠ k) : gi (gpi σ a k v) b j = gi σ b j := if_neg (fun q => h.elim (fun z => z q.1) (fun z => z q.2))
theorem gk_gpl {σ : GS} {a k b : Nat} {v : Int64} : gk (gpl σ a k v) b = gk σ b := rfl
theorem gn_gpl {σ : GS} {a k b : Nat} {v : Int64} : gn (gpl σ a k v) b = gn σ b := rfl
theorem gi_gpl {σ : GS} {a k b j : Nat} {v : Int64} : gi (gpl σ a k v) b j = gi σ b j := rfl
theorem gl_gpl {σ : GS} {a k b j : Nat} {v : Int64} : gl (gpl σ a k v) b j = if b = a ∧ j = k then v else gl σ b j := rfl
theorem gr_gpl {σ : GS} {a k b j : Nat} {v : Int64} : gr (gpl σ a k v) b j = gr σ b j := rfl
theorem gx_gpl {σ : GS} {a k : Nat} {v : Int64} : gx (gpl σ a k v) = gx σ := rfl
theorem gc_gpl {σ : GS} {a k : Nat} {v : Int64} : gc (gpl σ a k v) = gc σ := rfl
theorem gs_gpl {σ : GS} {a k : Nat} {v : Int64} : gs (gpl σ a k v) = gs σ := rfl
theorem gb_gpl {σ : GS} {a k : Nat} {v : Int64} : gb (gpl σ a k v) = gb σ := rfl
theorem gz_gpl {σ : GS} {a k b : Nat} {v : Int64} : gz (gpl σ a k v) b = gz σ b := rfl
theorem gl_gpl_eq {σ : GS} {a k : Nat} {v : Int64} : gl (gpl σ a k v) a k = v := if_pos ⟨rfl, rfl⟩
theorem gl_gpl_ne {σ : GS} {a k b j : Nat} {v : Int64} (h : b ≠ a ∨ j ≠ k) : gl (gpl σ a k v) b j = gl σ b j := if_neg (fun q => h.elim (fun z => z q.1) (fun z => z q.2))
theorem gk_gpr {σ : GS} {a k b : Nat} {v : Option Nat} : gk (gpr σ a k v) b = gk σ b := rfl
theorem gn_gpr {σ : GS} {a k b : Nat} {v : Option Nat} : gn (gpr σ a k v) b = gn σ b := rfl
theorem gi_gpr {σ : GS} {a k b j : Nat} {v : Option Nat} : gi (gpr σ a k v) b j = gi σ b j := rfl
theorem gl_gpr {σ : GS} {a k b j : Nat} {v : Option Nat} : gl (gpr σ a k v) b j = gl σ b j := rfl
theorem gr_gpr {σ : GS} {a k b j : Nat} {v : Option Nat} : gr (gpr σ a k v) b j = if b = a ∧ j = k then v else gr σ b j := rfl
theorem gx_gpr {σ : GS} {a k : Nat} {v : Option Nat} : gx (gpr σ a k v) = gx σ := rfl
theorem gc_gpr {σ : GS} {a k : Nat} {v : Option Nat} : gc (gpr σ a k v) = gc σ := rfl
theorem gs_gpr {σ : GS} {a k : Nat} {v : Option Nat} : gs (gpr σ a k v) = gs σ := rfl
theorem gb_gpr {σ : GS} {a k : Nat} {v : Option Nat} : gb (gpr σ a k v) = gb σ := rfl
theorem gz_gpr {σ : GS} {a k b : Nat} {v : Option Nat} : gz (gpr σ a k v) b = gz σ b := rfl
theorem gr_gpr_eq {σ : GS} {a k : Nat} {v : Option Nat} : gr (gpr σ a k v) a k = v := if_pos ⟨rfl, rfl⟩
theorem gr_gpr_ne {σ : GS} {a k b j : Nat} {v : Option Nat} (h : b ≠ a ∨ j ≠ k) : gr (gpr σ a k v) b j = gr σ b j := if_neg (fun q => h.elim (fun z => z q.1) (fun z => z q.2))
theorem gk_gnew {σ : GS} {K n w b : Nat} : gk (gnew σ K n w) b = if b = gx σ then K else gk σ b := rfl
theorem gn_gnew {σ : GS} {K n w b : Nat} : gn (gnew σ K n w) b = if b = gx σ then n else gn σ b := rfl
theorem gi_gnew {σ : GS} {K n w b j : Nat} : gi (gnew σ K n w) b j = if b = gx σ then 0 else gi σ b j := rfl
theorem gl_gnew {σ : GS} {K n w b j : Nat} : gl (gnew σ K n w) b j = if b = gx σ then 0 else gl σ b j := rfl
theorem gr_gnew {σ : GS} {K n w b j : Nat} : gr (gnew σ K n w) b j = if b = gx σ then none else gr σ b j := rfl
theorem gx_gnew {σ : GS} {K n w : Nat} : gx (gnew σ K n w) = gx σ + 1 := rfl
theorem gc_gnew {σ : GS} {K n w : Nat} : gc (gnew σ K n w) = gc σ - 1 := rfl
theorem gs_gnew {σ : GS} {K n w : Nat} : gs (gnew σ K n w) = gs σ - w := rfl
theorem gb_gnew {σ : GS} {K n w : Nat} : gb (gnew σ K n w) = gb σ := rfl
theorem gz_gnew {σ : GS} {K n w b : Nat} : gz (gnew σ K n w) b = gz σ b := rfl
/-- a heap's addresses in use lie below the next one -/
def WF (σ : GS) : Prop := (∀ a, gx σ ≤ a → gk σ a = 0) ∧ gb σ ≤ gx σ
theorem WF.lt {σ : GS} (h : WF σ) {a : Nat} (ha : gk σ a ≠ 0) : a < gx σ := Nat.lt_of_not_le fun q => ha (h.1 a q)
/-- from σ to σ' only the old cells in W have changed their contents; no old cell its kind or length -/
def Fr (W : Nat → Prop) (σ σ' : GS) : Prop := gx σ ≤ gx σ' ∧ gb σ' = gb σ ∧ gz σ' = gz σ ∧ (∀ a, a < gx σ → gk σ' a = gk σ a ∧ gn σ' a = gn σ a) ∧ (∀ a, a < gx σ → ¬ W a → ∀ j, gi σ' a j = gi σ a j ∧ gl σ' a j = gl σ a j ∧ gr σ' a j = gr σ a j) ∧ (WF σ → WF σ')
theorem Fr.rf {W : Nat → Prop} {σ : GS} : Fr W σ σ := ⟨Nat.le_refl _, rfl, rfl, fun _ _ => ⟨rfl, rfl⟩, fun _ _ _ _ => ⟨rfl, rfl, rfl⟩, id⟩
theorem Fr.tr {W W2 W3 : Nat → Prop} {σ σ1 σ2 : GS} (h : Fr W σ σ1) (h2 : Fr W2 σ1 σ2) (hw : ∀ a, a < gx σ → W a → W3 a) (hw2 : ∀ a, a < gx σ → W2 a → W3 a) : Fr W3 σ σ2 := by
  obtain ⟨a1, a2, a3, a4, a5, a6⟩ := h
  obtain ⟨b1, b2, b3, b4, b5, b6⟩ := h2
  refine ⟨Nat.le_trans a1 b1, b2.trans a2, b3.trans a3, fun a ha => ?_, fun a ha hn j => ?_, fun q => b6 (a6 q)⟩
  · have x := a4 a ha
    have y := b4 a (by omega)
    exact ⟨y.1.trans x.1, y.2.trans x.2⟩
  · have x := a5 a ha (fun q => hn (hw a ha q)) j
    have y := b5 a (by omega) (fun q => hn (hw2 a ha q)) j
    exact ⟨y.1.trans x.1, y.2.1.trans x.2.1, y.2.2.trans x.2.2⟩
theorem Fr.mo {W W2 : Nat → Prop} {σ σ' : GS} (h : Fr W σ σ') (hw : ∀ a, a < gx σ → W a → W2 a) : Fr W2 σ σ' := h.tr (Fr.rf (W := W2)) hw (fun _ _ q => q)
theorem Fr.pi {W : Nat → Prop} {σ : GS} {a k : Nat} {v : Int32} (h : W a) : Fr W σ (gpi σ a k v) :=
  ⟨Nat.le_refl _, rfl, rfl, fun _ _ => ⟨rfl, rfl⟩, fun b _ hb j => ⟨gi_gpi_ne (Or.inl (fun e => hb (e ▸ h))), rfl, rfl⟩, id⟩
theorem Fr.pl {W : Nat → Prop} {σ : GS} {a k : Nat} {v : Int64} (h : W a) : Fr W σ (gpl σ a k v) :=
  ⟨Nat.le_refl _, rfl, rfl, fun _ _ => ⟨rfl, rfl⟩, fun b _ hb j => ⟨rfl, gl_gpl_ne (Or.inl (fun e => hb (e ▸ h))), rfl⟩, id⟩
theorem Fr.pr {W : Nat → Prop} {σ : GS} {a k : Nat} {v : Option Nat} (h : W a) : Fr W σ (gpr σ a k v) :=
  ⟨Nat.le_refl _, rfl, rfl, fun _ _ => ⟨rfl, rfl⟩, fun b _ hb j => ⟨rfl, rfl, gr_gpr_ne (Or.inl (fun e => hb (e ▸ h)))⟩, id⟩
theorem WF.new {σ : GS} {K n w : Nat} (h : WF σ) : WF (gnew σ K n w) := by
  refine ⟨fun a ha => ?_, Nat.le_succ_of_le h.2⟩
  rw [gx_gnew] at ha
  rw [gk_gnew, if_neg (by omega)]
  exact h.1 a (by omega)
theorem Fr.new {W : Nat → Prop} {σ : GS} {K n w : Nat} : Fr W σ (gnew σ K n w) :=
  ⟨Nat.le_succ _, rfl, rfl, fun a ha => ⟨if_neg (by omega), if_neg (by omega)⟩, fun a ha _ j => ⟨if_neg (by omega), if_neg (by omega), if_neg (by omega)⟩, WF.new⟩
theorem Fr.cln {W : Nat → Prop} {σ : GS} {a : Nat} : Fr W σ (gcln σ a) := by
  refine ⟨Nat.le_succ _, rfl, rfl, fun b hb => ⟨if_neg (by omega), if_neg (by omega)⟩, fun b hb _ j => ⟨if_neg (by omega), if_neg (by omega), if_neg (by omega)⟩, fun h => ⟨fun b hb => ?_, Nat.le_succ_of_le h.2⟩⟩
  have hb : gx σ + 1 ≤ b := hb
  show (if b = gx σ then 101 else gk σ b) = 0
  rw [if_neg (by omega)]
  exact h.1 b (by omega)
theorem Fr.cpy {W : Nat → Prop} {σ : GS} {a0 a sp dp n : Nat} (h : W a) : Fr W σ (gcpy σ a0 a sp dp n) :=
  ⟨Nat.le_refl _, rfl, rfl, fun _ _ => ⟨rfl, rfl⟩, fun b _ hb j => ⟨if_neg (fun e : b = a => hb (e ▸ h)), rfl, rfl⟩, id⟩
theorem Fr.gk {W : Nat → Prop} {σ σ' : GS} (h : Fr W σ σ') (hw : WF σ) {a K : Nat} (hk : gk σ a = K) (hK : K ≠ 0) : gk σ' a = K := by
  rw [(h.2.2.2.1 a (hw.lt (by rw [hk]; exact hK))).1, hk]
theorem Fr.lt {W : Nat → Prop} {σ σ' : GS} (h : Fr W σ σ') {a : Nat} (ha : a < gx σ) : a < gx σ' := Nat.lt_of_lt_of_le ha h.1
theorem Fr.str {W : Nat → Prop} {σ σ' : GS} {t : List Nat} {s : Nat} (h : Fr W σ σ') (hw : WF σ) (hs : sS t s σ) (h1 : ¬ W s) (h2 : ∀ v, gr σ s 0 = some v → ¬ W v) : sS t s σ' := by
  obtain ⟨g1, g2, g3, v, g4, g5, g6⟩ := hs
  have ls : s < gx σ := hw.lt (by rw [g1]; decide)
  have lv : v < gx σ := hw.lt (by rw [g5]; decide)
  have es := h.2.2.2.2.1 s ls h1
  have ev := h.2.2.2.2.1 v lv (h2 v g4)
  refine ⟨h.gk hw g1 (by decide), g2, g3, v, (es 0).2.2.trans g4, h.gk hw g5 (by decide), ?_⟩
  have en := (h.2.2.2.1 v lv).2
  rcases g6 with ⟨x1, x2, x3⟩ | ⟨x1, x2, x3, x4⟩
  · exact Or.inl ⟨(es 1).1.trans x1, en.trans x2, fun k hk => ⟨(x3 k hk).1, (ev k).1.trans (x3 k hk).2⟩⟩
  · exact Or.inr ⟨(es 1).1.trans x1, en.trans x2, fun k hk => ⟨(ev _).1.trans (x3 k hk).1, (ev _).1.trans (x3 k hk).2⟩, x4⟩
end Frame
