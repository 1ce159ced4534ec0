/-! the component's readPool: one entry -/
section XRp3
set_option maxRecDepth 100000
/-- the state once the tag is noted -/
def xg3 (σ : GS) (x0 lo k p t : Nat) : GS := gpi (gpi (gpi σ (lo + 5) k (nI p)) x0 6 (nI (p + 1))) lo k (nI t)
theorem gk_xg3 {σ : GS} {x0 lo k p t a : Nat} : gk (xg3 σ x0 lo k p t) a = gk σ a := gk_gpi.trans (gk_gpi.trans gk_gpi)
theorem gn_xg3 {σ : GS} {x0 lo k p t a : Nat} : gn (xg3 σ x0 lo k p t) a = gn σ a := gn_gpi.trans (gn_gpi.trans gn_gpi)
theorem gr_xg3 {σ : GS} {x0 lo k p t a j : Nat} : gr (xg3 σ x0 lo k p t) a j = gr σ a j := gr_gpi.trans (gr_gpi.trans gr_gpi)
theorem gl_xg3 {σ : GS} {x0 lo k p t a j : Nat} : gl (xg3 σ x0 lo k p t) a j = gl σ a j := gl_gpi.trans (gl_gpi.trans gl_gpi)
theorem gx_xg3 {σ : GS} {x0 lo k p t : Nat} : gx (xg3 σ x0 lo k p t) = gx σ := gx_gpi.trans (gx_gpi.trans gx_gpi)
theorem gc_xg3 {σ : GS} {x0 lo k p t : Nat} : gc (xg3 σ x0 lo k p t) = gc σ := gc_gpi.trans (gc_gpi.trans gc_gpi)
theorem gs_xg3 {σ : GS} {x0 lo k p t : Nat} : gs (xg3 σ x0 lo k p t) = gs σ := gs_gpi.trans (gs_gpi.trans gs_gpi)
theorem x_s3 {F : Nat → Int32} {n x0 c b v lo sz maj k p t : Nat} {A : Nat → Nat} {T : Nat → List Nat} {C S : Nat} {u : List Nat} {σ : GS} (h : xHd F n x0 c b v lo sz maj k p A T C S u σ) : xA F n x0 (p + 1) (xg3 σ x0 lo k p t) ∧ xAr x0 c lo sz (xg3 σ x0 lo k p t) ∧ Fq (w0 x0 lo k) σ (xg3 σ x0 lo k p t) ∧ (gi (xg3 σ x0 lo k p t) lo k = nI t ∧ gi (xg3 σ x0 lo k p t) (lo + 5) k = nI p ∧ gi (xg3 σ x0 lo k p t) (lo + 1) k = 0 ∧ gi (xg3 σ x0 lo k p t) (lo + 2) k = 0 ∧ gl (xg3 σ x0 lo k p t) (lo + 3) k = 0) := by
  obtain ⟨⟨hw, hA, hP, hB⟩, hE, hz, ⟨hl1, hl2, hl3⟩, hC, hS2⟩ := h
  obtain ⟨⟨c1, c2⟩, ⟨r7, r8, r9, r10, r11⟩, ⟨s7, s11⟩, ⟨k0, k1, k2, k3, k4, k5⟩, ⟨n0, n1, n2, n3, n4, n5⟩, hgb, hsz31⟩ := hP
  have hx := hA.1.1
  have nex : ∀ {a K : Nat}, gk σ a = K → K ≠ 1 → a ≠ x0 := fun {a K} q r z => by rw [z, hx] at q; exact r q.symm
  have x_0 := nex k0 (by decide)
  have x_1 := nex k1 (by decide)
  have x_2 := nex k2 (by decide)
  have x_5 := nex k5 (by decide)
  obtain ⟨z00, z01, z02, z03⟩ := hz k (Nat.le_refl _)
  refine ⟨?_, ⟨gk_xg3.trans c1, ⟨gr_xg3.trans r8, gr_xg3.trans r9, gr_xg3.trans r10⟩, ⟨gk_xg3.trans k1, gk_xg3.trans k2, gk_xg3.trans k3⟩, ⟨gn_xg3.trans n1, gn_xg3.trans n2, gn_xg3.trans n3⟩, hsz31, x_0, x_1, x_2, x_5⟩, ?_, gi_gpi_eq, ?_, ?_, ?_, gl_xg3.trans z03⟩
  · have A1 : xA F n x0 p (gpi σ (lo + 5) k (nI p)) := hA.pi (by rw [k5]; decide) x_5
    have A2 : xA F n x0 (p + 1) (gpi (gpi σ (lo + 5) k (nI p)) x0 6 (nI (p + 1))) := A1.to
    obtain ⟨⟨w1, g, w2, w3, w4, w5, w6⟩, h6, h8⟩ := A2
    have hg : g ≠ lo := (hl3 g (gr_gpi.symm.trans (gr_gpi.symm.trans w2))).2
    exact ⟨⟨gk_gpi.trans w1, g, gr_gpi.trans w2, gk_gpi.trans w3, gn_gpi.trans w4, w5, fun i hi => (gi_gpi_ne (Or.inl hg)).trans (w6 i hi)⟩, (gi_gpi_ne (Or.inl (fun z => x_0 z.symm))).trans h6, h8.pi (fun z => x_0 z.symm)⟩
  · exact (Fq.pi (Or.inr ⟨by omega, by omega, rfl⟩)).tr ((Fq.pi (Or.inl ⟨rfl, by omega⟩)).tr (Fq.pi (Or.inr ⟨by omega, by omega, rfl⟩)))
  · exact (gi_gpi_ne (Or.inl (by omega))).trans ((gi_gpi_ne (Or.inl x_5)).trans gi_gpi_eq)
  · exact (gi_gpi_ne (Or.inl (by omega))).trans ((gi_gpi_ne (Or.inl x_1)).trans ((gi_gpi_ne (Or.inl (by omega))).trans z01))
  · exact (gi_gpi_ne (Or.inl (by omega))).trans ((gi_gpi_ne (Or.inl x_2)).trans ((gi_gpi_ne (Or.inl (by omega))).trans z02))
end XRp3
