/-! METHODS of the component on the picture of a book: passing an offer on. -/
set_option maxRecDepth 100000
section ZPA
variable {G : Nat × Nat × Nat} {F : Nat → Prop} {h0 h h' : ZH} {A : ZA} {E : Nat → Nat} {σ : ZS} {cb b : Nat}
theorem sau_sau (σ : ZS) (k i : Nat) (x y : Int32) : sau (sau σ k i x) k i y = sau σ k i y := by
  unfold sau
  refine Prod.ext rfl (Prod.ext ?_ rfl)
  funext k' i'
  show (if k' = k ∧ i' = i then y else if k' = k ∧ i' = i then x else σ.2.1 k' i') = if k' = k ∧ i' = i then y else σ.2.1 k' i'
  by_cases q : k' = k ∧ i' = i
  · rw [if_pos q, if_pos q]
  · rw [if_neg q, if_neg q, if_neg q]
/-- from k on, the first in the order who lives -/
def sNext (σ : ZS) (l : List Nat) : Nat → Nat → Nat
  | 0, k => k
  | n + 1, k => if k < l.length ∧ ¬ sa σ 702 (l.getD k 0) = 0 then sNext σ l n (k + 1) else k
def sAtNo (l : List Nat) (m : Nat) : Int32 := if m < l.length then nI (l.getD m 0) else -1
def sPass (σ : ZS) (g : Nat) (day : Int32) (k : Nat) : ZS :=
  sau (sau (sau σ 612 g (nI (sNext σ (sl σ 0 g) 64 k))) 609 g (sAtNo (sl σ 0 g) (sNext σ (sl σ 0 g) 64 k))) 610 g (if sNext σ (sl σ 0 g) 64 k < (sl σ 0 g).length then day + 60 else day)
theorem sNext_fix {l : List Nat} {n k : Nat} (h : ¬ (k < l.length ∧ ¬ sa σ 702 (l.getD k 0) = 0)) : sNext σ l n k = k := by
  cases n with
  | zero => rfl
  | succ n => unfold sNext; rw [if_neg h]
theorem sNext_more {l : List Nat} : ∀ (n m k : Nat), l.length ≤ k + n → l.length ≤ k + m → sNext σ l n k = sNext σ l m k := by
  intro n
  induction n with
  | zero => intro m k h1 h2; rw [sNext_fix (by omega), sNext_fix (by omega)]
  | succ n ih =>
    intro m k h1 h2
    by_cases q : k < l.length ∧ ¬ sa σ 702 (l.getD k 0) = 0
    · obtain ⟨m', rfl⟩ : ∃ m', m = m' + 1 := ⟨m - 1, by omega⟩
      show (if _ then _ else _) = (if _ then _ else _)
      rw [if_pos q, if_pos q]
      exact ih m' (k + 1) (by omega) (by omega)
    · rw [sNext_fix q, sNext_fix q]
theorem sp_pass (R : rcAll G F h0 A E h σ cb b) {Q : ZH → Prop} {g k : Nat} {day : Int32} (hg : g < sn σ 1) (hk : sa σ 612 g + 1 = nI k) (hk64 : k ≤ 64) (hord : ∀ p ∈ sl σ 0 g, p < sn σ 2)
    (hQ : ∀ h', rcAll G F h0 A E h' (sPass σ g day k) cb b → Q h') : fv_passOn_5 G (A 1 g) Q h day := by
  have hm := rc_gt R hg
  have h32 := rc_sz2 R
  refine ⟨hm, fun _ => ⟨hm, hm, fun h1 e1 => ?_⟩⟩
  have hat : zi h 612 (A 1 g) = sa σ 612 g := (R.2.2.2.2.1 g hg).2.1 612 (by simp [rcGi])
  rw [hat, hk] at e1
  have hlen : (sl σ 0 g).length ≤ 64 := by have := (rc_ord R hg).2.2.2.2.1; have := (rc_ord R hg).2.2.2.2.2.1; simp at *; omega
  -- behind the loop
  have fin : ∀ (m : Nat) (hh : ZH), m ≤ 128 → rcAll G F h0 A E hh (sau σ 612 g (nI m)) cb b → sNext σ (sl σ 0 g) 64 k = m → fc_X9_passOn_57 G (A 1 g) Q hh day := by
    intro m hh hm1 Rm hn
    have hmm := rc_gt Rm hg
    have at1 : zi hh 612 (A 1 g) = nI m := by
      rw [(Rm.2.2.2.2.1 g hg).2.1 612 (by simp [rcGi]), sa_au, if_pos ⟨rfl, rfl⟩]
    have Lo : zL hh (A 5 (4 + 3 * g)) (E (4 + 3 * g)) ((sl σ 0 g).map (A 0)) := rc_ord Rm hg
    have last : ∀ (x : Int32) (r : Option Nat), r = rfx (A 0) x → (r = none ↔ ¬ m < (sl σ 0 g).length) → x = sAtNo (sl σ 0 g) m → fc_X9_passOn_90 G (A 1 g) Q hh day r := by
      intro x r hr hrn hx
      subst hr
      refine ⟨hmm, fun h2 e2 => ?_⟩
      have R2 : rcAll G F h0 A E h2 _ cb b := e2 ▸ rc_Gr Rm hg (f := 609) (x := x) (by simp [rcGr])
      have hz : zr h2 609 (A 1 g) = rfx (A 0) x := by rw [e2, zr_pr, if_pos ⟨rfl, rfl⟩]
      refine ⟨rc_gt R2 hg, fun w => ⟨rc_gt R2 hg, fun h3 e3 => ?_⟩, fun b2 w => ⟨rc_gt R2 hg, fun h3 e3 => ?_⟩⟩
      · rw [hz] at w
        have R3 : rcAll G F h0 A E h3 _ cb b := e3 ▸ rc_Gi R2 hg (f := 610) (x := day) (by simp [rcGi])
        refine hQ h3 ?_
        unfold sPass
        rw [hn, if_neg (hrn.mp w), ← hx]; exact R3
      · rw [hz] at w
        have hlt : m < (sl σ 0 g).length := Classical.byContradiction fun q => by rw [hrn.mpr q] at w; cases w
        have R3 : rcAll G F h0 A E h3 _ cb b := e3 ▸ rc_Gi R2 hg (f := 610) (x := day + 60) (by simp [rcGi])
        refine hQ h3 ?_
        unfold sPass
        rw [hn, if_pos hlt, ← hx]; exact R3
    refine ⟨hmm, hmm, _, (Rm.2.2.2.2.1 g hg).2.2.2.1, Lo.1, zl_size Lo ⟨fun w => ?_, fun w => ⟨hmm, hmm, Lo.1, ?_⟩⟩⟩
    · rw [at1, List.length_map] at w
      have hge : ¬ m < (sl σ 0 g).length := fun q => nI_ge q (by omega) w
      exact last (-1) none (rfx_none _).symm ⟨fun _ => hge, fun _ => rfl⟩ (by unfold sAtNo; rw [if_neg hge])
    · rw [at1, List.length_map] at w
      have hlt : m < (sl σ 0 g).length := Classical.byContradiction fun q => w (nI_le (by omega) (by omega))
      rw [at1]
      refine zl_get Lo (by rw [List.length_map]; exact hlt) ?_
      have e : ((sl σ 0 g).map (A 0))[m]? = some (A 0 ((sl σ 0 g).getD m 0)) := by simp [hlt]
      have hp : (sl σ 0 g).getD m 0 < sn σ 2 := hord _ (by simp [hlt])
      rw [e]
      refine ⟨fun b9 hb9 => ?_, last (nI ((sl σ 0 g).getD m 0)) _ (rfx_some _ (by omega)).symm ⟨fun w => (nomatch w), fun q => absurd hlt q⟩ (by unfold sAtNo; rw [if_pos hlt])⟩
      cases hb9
      rw [(Rm.2.2.2.1 _ hp).1]; decide
  have loop : ∀ (n m : Nat) (hh : ZH), (sl σ 0 g).length + 1 ≤ m + n → 1 ≤ n → m ≤ 64 → rcAll G F h0 A E hh (sau σ 612 g (nI m)) cb b → sNext σ (sl σ 0 g) 64 k = sNext σ (sl σ 0 g) 64 m → fc_X9_passOn_10 G (A 1 g) Q n hh day := by
    intro n
    induction n with
    | zero => intro m hh h1 h2; omega
    | succ n ih =>
      intro m hh h1 h2 h3 Rm hn
      have hmm := rc_gt Rm hg
      have at1 : zi hh 612 (A 1 g) = nI m := by
        rw [(Rm.2.2.2.2.1 g hg).2.1 612 (by simp [rcGi]), sa_au, if_pos ⟨rfl, rfl⟩]
      have Lo : zL hh (A 5 (4 + 3 * g)) (E (4 + 3 * g)) ((sl σ 0 g).map (A 0)) := rc_ord Rm hg
      refine ⟨hmm, hmm, _, (Rm.2.2.2.2.1 g hg).2.2.2.1, Lo.1, zl_size Lo ⟨fun w => ?_, fun w => ⟨hmm, hmm, Lo.1, ?_⟩⟩⟩
      · rw [at1, List.length_map] at w
        have hge : ¬ m < (sl σ 0 g).length := fun q => nI_ge q (by omega) w
        exact fin m hh (by omega) Rm (hn.trans (sNext_fix (fun q => hge q.1)))
      · rw [at1, List.length_map] at w
        have hlt : m < (sl σ 0 g).length := Classical.byContradiction fun q => w (nI_le (by omega) (by omega))
        rw [at1]
        refine zl_get Lo (by rw [List.length_map]; exact hlt) ?_
        have e : ((sl σ 0 g).map (A 0))[m]? = some (A 0 ((sl σ 0 g).getD m 0)) := by simp [hlt]
        have hp : (sl σ 0 g).getD m 0 < sn σ 2 := hord _ (by simp [hlt])
        have hP := Rm.2.2.2.1 _ hp
        have m14 : zt hh (A 0 ((sl σ 0 g).getD m 0)) ∈ [14] := by rw [hP.1]; decide
        have hd : zi hh 702 (A 0 ((sl σ 0 g).getD m 0)) = sa σ 702 ((sl σ 0 g).getD m 0) := by rw [hP.2.1 702 (by simp [rcPi]), sa_au, if_neg (fun q => by simp at q)]
        rw [e]
        refine ⟨fun b9 hb9 => by cases hb9; exact m14, _, rfl, m14, fun z => ?_, fun z => ⟨hmm, hmm, fun h5 e5 => ?_⟩⟩
        · rw [hd] at z
          exact fin m hh (by omega) Rm (hn.trans (sNext_fix (fun q => q.2 z)))
        · rw [hd] at z
          rw [nI_1] at e5
          have R5 : rcAll G F h0 A E h5 _ cb b := e5 ▸ rc_Gi Rm hg (f := 612) (x := nI (m + 1)) (by simp [rcGi])
          rw [sau_sau] at R5
          refine ih (m + 1) h5 (by omega) (by omega) (by omega) R5 (hn.trans ?_)
          have s1 : sNext σ (sl σ 0 g) 64 m = sNext σ (sl σ 0 g) 63 (m + 1) := by
            show (if _ then _ else _) = _
            rw [if_pos ⟨hlt, z⟩]
          rw [s1]
          exact sNext_more 63 64 (m + 1) (by omega) (by omega)
  have R1 : rcAll G F h0 A E h1 (sau σ 612 g (nI k)) cb b := e1 ▸ rc_Gi R hg (f := 612) (x := nI k) (by simp [rcGi])
  exact ⟨65, loop 65 k h1 (by omega) (by omega) hk64 R1 rfl⟩
end ZPA
