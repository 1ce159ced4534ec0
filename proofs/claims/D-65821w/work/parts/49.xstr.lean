/-! the component's structure: the file read through -/
section XStr
set_option maxRecDepth 100000
/-- the addresses that are to stay -/
def nN (x0 b v cm : Nat) (σ : GS) (a : Nat) : Prop := a < gx σ ∧ a ≠ x0 ∧ a ≠ b ∧ a ≠ v ∧ a ≠ cm
/-- what checking may change -/
def wk (x0 c : Nat) (N : Nat → Prop) (a j : Nat) : Prop := wx x0 a j ∨ (a = c ∧ (j = 0 ∨ j = 3 ∨ j = 4 ∨ j = 5 ∨ 12 ≤ j)) ∨ (¬ N a ∧ a ≠ x0)
/-- the component has the file, its pool in c, and the places of the head and of the fields -/
def xP (P : PD) (x0 c lo : Nat) (N : Nat → Prop) (hd fa : Nat) (σ : GS) : Prop := xPc P c lo N σ ∧ xF P.1 P.2.1 x0 σ ∧ (∀ f, gr σ x0 2 = some f → N f) ∧ (gr σ x0 7 = some (lo + 5) ∧ gk σ (lo + 5) = 100 ∧ gn σ (lo + 5) = ctP P ∧ N (lo + 5)) ∧ (∀ i, tgP P i ≠ 0 → gi σ (lo + 5) i = nI (P.2.2.1 i)) ∧ (gi σ x0 9 = nI hd ∧ gi σ x0 10 = nI fa) ∧ ¬ N x0
theorem xP.fr {P : PD} {x0 c lo : Nat} {N : Nat → Prop} {hd fa : Nat} {σ σ' : GS} (h : xP P x0 c lo N hd fa σ) (f : Fq (wk x0 c N) σ σ') (hw : WF σ) : xP P x0 c lo N hd fa σ' := by
  obtain ⟨h1, h2, h3, ⟨h4, h5, h6, h7⟩, h8, ⟨h9, h10⟩, h11⟩ := h
  have hx := h2.1
  have hc := h1.1.1
  have ncx : x0 ≠ c := fun z => by rw [z, hc] at hx; exact absurd hx (by decide)
  have lx : x0 < gx σ := hw.lt (by rw [hx]; decide)
  have l5 : lo + 5 < gx σ := hw.lt (by rw [h5]; decide)
  have wx0 : ∀ j, ¬ (j = 3 ∨ j = 4 ∨ j = 6 ∨ j = 8) → ¬ wk x0 c N x0 j := fun j hj z => by
    rcases z with z | z | z
    · exact hj z.2
    · exact ncx z.1
    · exact z.2 rfl
  have wn : ∀ {a K : Nat}, gk σ a = K → K ≠ 1 → K ≠ 2 → N a → ∀ j, ¬ wk x0 c N a j := fun {a K} q r1 r2 m j z => by
    rcases z with z | z | z
    · rw [z.1, hx] at q
      exact r1 q.symm
    · rw [z.1, hc] at q
      exact r2 q.symm
    · exact z.1 m
  refine ⟨h1.fr f hw (fun a j z m => ?_), h2.fr f hw (wx0 2 (by omega)) (fun g hg => ?_), fun g hg => h3 g ?_, ⟨(f.gr lx (wx0 7 (by omega))).trans h4, f.gk hw h5 (by decide), (f.gn l5).trans h6, h7⟩, fun i hi => (f.gi l5 (wn h5 (by decide) (by decide) h7 i)).trans (h8 i hi), ⟨(f.gi lx (wx0 9 (by omega))).trans h9, (f.gi lx (wx0 10 (by omega))).trans h10⟩, h11⟩
  · rcases z with z | z | z
    · exact absurd (z.1 ▸ m) h11
    · exact z
    · exact absurd m z.1
  · obtain ⟨-, g', w2, w3, -⟩ := h2
    have : g = g' := by
      rw [w2] at hg
      cases hg
      rfl
    rw [this] at hg ⊢
    exact wn w3 (by decide) (by decide) (h3 g' hg)
  · rw [f.gr lx (wx0 2 (by omega))] at hg
    exact hg
/-- reading through: what it ends with -/
def xS5 (F : Nat → Int32) (n x0 c b v cm C S : Nat) (E : FE ((Nat → Nat) × (Nat → List Nat) × Nat × Nat × Nat × Nat)) (σ : GS) (o : Option (Option Nat × GS)) : Prop := match E with
  | .error er => ∃ σ' v' t', o = some (none, σ') ∧ xWr x0 er σ' ∧ bS t' b v' σ' ∧ (v' = v ∨ gx σ ≤ v') ∧ Fq (w5 x0 c b v) σ σ' ∧ C ≤ gc σ' ∧ S ≤ gs σ' + 2 * gn σ' v'
  | .ok r => ∃ σ' v' t' lo, o = some (some c, σ') ∧ (Z8 x0 σ' ∧ xP (F, n, r.1, r.2.1) x0 c lo (nN x0 b v' cm σ') r.2.2.1 r.2.2.2.1 σ') ∧ bS t' b v' σ' ∧ (v' = v ∨ gx σ ≤ v') ∧ Fq (w5 x0 c b v) σ σ' ∧ C ≤ gc σ' ∧ S ≤ gs σ' + 2 * gn σ' v'
theorem xS5.fr {F : Nat → Int32} {n x0 c b v cm C S : Nat} {E : FE ((Nat → Nat) × (Nat → List Nat) × Nat × Nat × Nat × Nat)} {σ σ1 : GS} {o : Option (Option Nat × GS)} (h : Fq (w5 x0 c b v) σ σ1) (q : xS5 F n x0 c b v cm C S E σ1 o) : xS5 F n x0 c b v cm C S E σ o := by
  have h1 := h.1
  cases E with
  | error er =>
    obtain ⟨σ', v', t', a1, a2, a3, a4, a5, a6⟩ := q
    exact ⟨σ', v', t', a1, a2, a3, by omega, h.tr a5, a6⟩
  | ok r =>
    obtain ⟨σ', v', t', lo, a1, a2, a3, a4, a5, a6⟩ := q
    exact ⟨σ', v', t', lo, a1, a2, a3, by omega, h.tr a5, a6⟩
theorem x_hs {F : Nat → Int32} {n x0 c p : Nat} {σ : GS} {α : Type} {f : Unit → FE α} {Q : α → GS → Prop} {G : GS → Option (Option Nat × GS)} (hA : xA F n x0 p σ) (hn : n ≤ 20000) (hp : p ≤ n) (k : p + 2 ≤ n → xA F n x0 (p + 2) (gpi σ x0 6 (nI (p + 2))) → xT4 x0 LT (f ()) Q xno (xso c) (gpi σ x0 6 (nI (p + 2))) (G (gpi σ x0 6 (nI (p + 2))))) : xT4 x0 LT (eb (itS n p 2) f) Q xno (xso c) σ ((x_has σ x0 (2 : Int64)).bind fun r => if r.1 = 0 then some (none, r.2) else ckT r.2 1 x0 (nx (gpi r.2 x0 6 ((gi r.2 x0 6) + (2 : Int32))) G)) := by
  rw [show (2 : Int64) = lN 2 from rfl, x_has_ok hA hn hp (by omega)]
  by_cases z : n < p + 2
  · rw [if_pos z, Option.bind_some, if_pos rfl, show itS n p 2 = .error (1, p) from if_pos z]
    exact xT4.er (by decide) (by decide) (by decide) rfl
  · rw [if_neg z, Option.bind_some, if_neg i10, show itS n p 2 = .ok () from if_neg z, eb_ok, ckT_ok hA.1.1, nx_eq, hA.2.1, nI_2]
    exact (k (by omega) hA.to).fr (sm.put (by decide))
theorem x_smid {F : Nat → Int32} {n x0 c fu p : Nat} {σ : GS} (hn : n ≤ 20000) (hfu : 65536 < fu) (hp : p ≤ n) (hA : xA F n x0 p σ) : xT4 x0 LT (eb (itS n p 2) fun _ => eb (itS n (p + 2) 2) fun _ => eb (itS n (p + 4) 2) fun _ => eb (itS n (p + 6) 2) fun _ => eb (skI n (U2 F (p + 6)) (p + 8)) fun q1 => eb (tailS F n q1) fun r => .ok (q1, r)) (fun r σ' => xF F n x0 σ' ∧ Z8 x0 σ' ∧ gi σ' x0 10 = nI r.1) xno (xso c) σ ((x_has σ x0 (2 : Int64)).bind fun r7 => if r7.1 = 0 then some (none, r7.2) else ckT r7.2 1 x0 (nx (gpi r7.2 x0 6 ((gi r7.2 x0 6) + (2 : Int32))) fun s11 => (x_has s11 x0 (2 : Int64)).bind fun r12 => if r12.1 = 0 then some (none, r12.2) else ckT r12.2 1 x0 (nx (gpi r12.2 x0 6 ((gi r12.2 x0 6) + (2 : Int32))) fun s16 => (x_has s16 x0 (2 : Int64)).bind fun r17 => if r17.1 = 0 then some (none, r17.2) else ckT r17.2 1 x0 (nx (gpi r17.2 x0 6 ((gi r17.2 x0 6) + (2 : Int32))) fun s21 => (x_next2 s21 x0).bind fun r22 => x_structure_242L fu fu r22.2 x0 c r22.1 (0 : Int32))))) := by
  refine x_hs hA hn hp fun h1 A1 => ?_
  generalize gpi σ x0 6 (nI (p + 2)) = σ1 at *
  refine x_hs A1 hn (by omega) fun h2 A2 => ?_
  generalize gpi σ1 x0 6 (nI (p + 2 + 2)) = σ2 at *
  refine x_hs A2 hn (by omega) fun h3 A3 => ?_
  generalize gpi σ2 x0 6 (nI (p + 2 + 2 + 2)) = σ3 at *
  have A3 : xA F n x0 (p + 6) σ3 := A3
  clear hA A1 A2
  rw [x_next2_ok A3 hn (by omega)]
  have h22 := U2_lt F (p + 6)
  by_cases z1 : n < p + 6 + 2
  · rw [if_pos z1, Option.bind_some, show itS n (p + 6) 2 = .error (1, p + 6) from if_pos z1]
    refine ⟨gpi (xwr σ3 x0 1 (p + 6)) x0 10 (gi (xwr σ3 x0 1 (p + 6)) x0 6), ?_, ⟨(gi_gpi_ne (Or.inr (by decide))).trans xwr_ok.1, (gi_gpi_ne (Or.inr (by decide))).trans xwr_ok.2.1, (gi_gpi_ne (Or.inr (by decide))).trans xwr_ok.2.2⟩, (sm.wr (by decide) (by decide) (by decide)).tr (sm.put (by decide))⟩
    obtain ⟨f, rfl⟩ : ∃ z9, fu = z9 + 1 := ⟨fu - 1, by omega⟩
    show x_structure_242 (f + 1) (x_structure_242L (f + 1) f) (xwr σ3 x0 1 (p + 6)) x0 c 0 0 = _
    unfold x_structure_242 x_structure_267
    rw [if_pos (by decide), ckT_ok (gk_xwr.trans A3.1.1), nx_eq]
    exact x_flag278 ((gi_gpi_ne (Or.inr (by decide))).trans xwr8) (gk_gpi.trans (gk_xwr.trans A3.1.1)) (by omega)
  · rw [if_neg z1, Option.bind_some, show itS n (p + 6) 2 = .ok () from if_neg z1, eb_ok]
    refine xT4.fr (sm.put (k := 6) (v := nI (p + 6 + 2)) (by decide)) ?_
    have := x_ifs_loop (F := F) (n := n) (x0 := x0) (x1 := c) hn hfu (U2 F (p + 6)) fu (p + 8) 0 (gpi σ3 x0 6 (nI (p + 6 + 2))) (by omega) (by omega) (by omega) A3.to
    rw [Nat.zero_add] at this
    exact this
end XStr
