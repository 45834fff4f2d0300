/-! METHODS of the component on the picture of a book: days pass. -/
set_option maxRecDepth 100000
section ZTU
variable {G : Nat × Nat × Nat} {F : Nat → Prop} {h0 h h' : ZH} {A : ZA} {E : Nat → Nat} {σ : ZS} {cb b : Nat}
def sFalls (σ : ZS) (g : Nat) : ZS := sau (sau (slu (sau (sau (sau σ 606 g 3) 607 g (-1)) 609 g (-1)) 0 g []) 613 g (-1)) 614 g (-1)
theorem sp_falls (R : rcAll G F h0 A E h σ cb b) {Q : ZH → Prop} {g : Nat} (hg : g < sn σ 1) (hQ : ∀ E' h', rcAll G F h0 A E' h' (sFalls σ g) cb b → Q h') : fv_falls_23 G (A 1 g) Q h := by
  have hm := rc_gt R hg
  refine ⟨hm, fun _ => ⟨hm, fun h1 e1 => ?_⟩⟩
  have R1 : rcAll G F h0 A E h1 _ cb b := e1 ▸ rc_Gi R hg (f := 606) (x := 3) (by simp [rcGi])
  refine ⟨rc_gt R1 hg, fun h2 e2 => ?_⟩
  have R2 : rcAll G F h0 A E h2 _ cb b := e2 ▸ rc_Gr R1 hg (f := 607) (x := -1) (by simp [rcGr])
  refine ⟨rc_gt R2 hg, fun h3 e3 => ?_⟩
  have R3 : rcAll G F h0 A E h3 _ cb b := e3 ▸ rc_Gr R2 hg (f := 609) (x := -1) (by simp [rcGr])
  have hL := rc_ord R3 hg
  refine ⟨rc_gt R3 hg, _, (R3.2.2.2.2.1 g hg).2.2.2.1, hL.1, zl_clear hL fun h5 hL5 hA5 => ?_⟩
  have R5 := rc_L R3 (k := 0) (l := []) (by omega) hg (by omega) rfl hL5 hA5
  refine ⟨rc_gt R5 hg, fun h6 e6 => ?_⟩
  have R6 : rcAll G F h0 A _ h6 _ cb b := e6 ▸ rc_T0 R5 hg rfl
  refine ⟨rc_gt R6 hg, fun h7 e7 => ?_⟩
  have R7 : rcAll G F h0 A _ h7 _ cb b := e7 ▸ rc_Gr R6 hg (f := 614) (x := -1) (by simp [rcGr])
  exact hQ _ h7 R7
end ZTU
