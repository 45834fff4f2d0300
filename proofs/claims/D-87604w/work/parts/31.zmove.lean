/-! METHODS of the component on the picture of a book: the act 'move'. -/
set_option maxRecDepth 100000
section ZMV
variable {G : Nat × Nat × Nat} {F : Nat → Prop} {h0 h h' : ZH} {A A' : ZA} {E E' : Nat → Nat} {σ σ' : ZS} {cb b : Nat} {C : Nat → List Nat}
theorem erase_split {l : List Nat} {x : Nat} (h : x ∈ l) : ∃ i, l[i]? = some x ∧ (∀ k, k < i → l[k]? ≠ some x) ∧ l.erase x = l.take i ++ l.drop (i + 1) := by
  induction l with
  | nil => exact absurd h (List.not_mem_nil)
  | cons a l ih =>
    by_cases q : a = x
    · subst q
      exact ⟨0, rfl, fun k hk => absurd hk (Nat.not_lt_zero _), by simp⟩
    · have hx : x ∈ l := (List.mem_cons.mp h).resolve_left fun z => q z.symm
      obtain ⟨i, i1, i2, i3⟩ := ih hx
      refine ⟨i + 1, i1, fun k hk => ?_, ?_⟩
      · cases k with
        | zero => simp; exact q
        | succ k => simp; exact i2 k (by omega)
      · rw [List.erase_cons_tail (by simpa using q), i3]; simp
theorem find_erase {l : List Nat} {x : Nat} {f : Nat → Bool} (h : f x = false) : (l.erase x).find? f = l.find? f := by
  induction l with
  | nil => rfl
  | cons a l ih =>
    by_cases q : a = x
    · subst q
      rw [List.erase_cons_head, List.find?_cons, h]
    · rw [List.erase_cons_tail (by simpa using q), List.find?_cons, List.find?_cons, ih]
/-- the one above, of one who lies below -/
def sAbove (σ : ZS) (j : Nat) : Option Nat := if sa σ 712 j = 1 then sIn σ (sa σ 710 j).toNatClampNeg (sa σ 711 j) 0 else none
/-- the one above is taken away with its earth -/
def sLift (σ : ZS) (j : Nat) : ZS := match sAbove σ j with
  | none => slu σ 1 (sa σ 710 j).toNatClampNeg ((sl σ 1 (sa σ 710 j).toNatClampNeg).erase j)
  | some q => if sRests σ q (sa σ 203 0) then slu σ 1 (sa σ 710 j).toNatClampNeg ((sl σ 1 (sa σ 710 j).toNatClampNeg).erase j) else sau (slu σ 1 (sa σ 710 j).toNatClampNeg ((sl σ 1 (sa σ 710 j).toNatClampNeg).erase j)) 712 q 2
def sHinders (σ : ZS) (j : Nat) (n : Int32) : Bool := match sAbove σ j with
  | none => false
  | some q => decide (sRests σ q (sa σ 203 0) ∧ ¬ sa σ 700 q = n)
def sMoveG (σ : ZS) (j g : Nat) (c n : Int32) : Int32 × ZS :=
  if sa σ 710 j = nI g ∧ sa σ 711 j = c then (-1, σ)
  else if ¬ (¬ sa σ 710 j = -1 ∧ ¬ 2 ≤ sa σ 712 j ∧ ¬ sa σ 10 (sa σ 710 j).toNatClampNeg = 5) then (-3, σ)
  else if ¬ sa σ 606 (sa σ 710 j).toNatClampNeg = 1 then (-4, σ)
  else if sHinders σ j n = true then (-8, σ)
  else if ¬ sWhyG σ g c (some j) (sa σ 708 j) (sa σ 709 j) 1 = 0 then (-sWhyG σ g c (some j) (sa σ 708 j) (sa σ 709 j) 1, σ)
  else (90 + (sLaid (sLift σ j) g j c (sa σ 708 j)).1, sau (sLaid (sLift σ j) g j c (sa σ 708 j)).2 204 0 (sa (sLaid (sLift σ j) g j c (sa σ 708 j)).2 204 0 + (90 + (sLaid (sLift σ j) g j c (sa σ 708 j)).1)))
/-- the act 'move' -/
def sMove (σ : ZS) (p x c n : Int32) : Int32 × ZS :=
  if (∃ j, j < sn σ 2 ∧ p = nI j) ∧ (∃ g, g < sn σ 1 ∧ x = nI g) ∧ ¬ sa σ 606 x.toNatClampNeg = 4 ∧ (¬ c < 0 ∧ ¬ sColumns σ x.toNatClampNeg ≤ c) ∧ (n = -1 ∨ ∃ i, i < sn σ 2 ∧ n = nI i) then sMoveG σ p.toNatClampNeg x.toNatClampNeg c n else (-1, σ)
/-- what is asked of who lies where -/
def sLy (σ : ZS) : Prop := (∀ g, g < sn σ 1 → (sl σ 1 g).length ≤ 40 ∧ ∀ q ∈ sl σ 1 g, ¬ sa σ 708 q = -1 ∧ sa σ 710 q = nI g) ∧ (∀ p, p < sn σ 2 → (sy σ p).length ≤ 39 ∧ ∀ g, g < sn σ 1 → sa σ 710 p = nI g → p ∈ sl σ 1 g)
theorem sp_move (R : rcAll G F h0 A E h σ cb b) (W : sRef σ) (h700 : ∀ p, p < sn σ 2 → sa σ 700 p = nI p) (hH : ∀ g, g < sn σ 1 → sa σ 606 g = 1 → ¬ sa σ 607 g = -1) (hY : sLy σ) {p x c n : Int32} (hN : ∀ g j, g < sn σ 1 → j < sn σ 2 → ¬ (sa σ 710 j = nI g ∧ sa σ 711 j = c) → (¬ sa σ 710 j = -1 ∧ ¬ 2 ≤ sa σ 712 j ∧ ¬ sa σ 10 (sa σ 710 j).toNatClampNeg = 5) → sWhyG σ g c (some j) (sa σ 708 j) (sa σ 709 j) 1 = 0 → ¬ 90 + (sLaid (sLift σ j) g j c (sa σ 708 j)).1 < 0)
    {Q : Int32 → ZH → Prop} {XE : String → Nat → ZH → Prop} {bc bs : Nat} (hc : 3 ≤ bc) (hs : 130 ≤ bs)
    (hX : ∀ v', sMove σ p x c n = (v', σ) → v' < 0 → zXr XE h v')
    (hQ : ∀ v σ' A' E' h', sMove σ p x c n = (v, σ') → ¬ v < 0 → rcAll G F h0 A' E' h' σ' cb b → Q v h') : fc_X5_move G b Q XE h bc bs p x c n := by
  have h40 := W.2.2.2.2.1 2
  have h41 := W.2.2.2.2.1 1
  have hb4 : zt h b ∈ [4] := by rw [R.1.1]; decide
  have e203 : zi h 203 b = sa σ 203 0 := R.1.2.1
  have bad : ∀ r1 r2, ¬ ((∃ j, j < sn σ 2 ∧ p = nI j) ∧ (∃ g, g < sn σ 1 ∧ x = nI g) ∧ ¬ sa σ 606 x.toNatClampNeg = 4 ∧ (¬ c < 0 ∧ ¬ sColumns σ x.toNatClampNeg ≤ c) ∧ (n = -1 ∨ ∃ i, i < sn σ 2 ∧ n = nI i)) → fc_X5_move_61 G b Q XE h bc bs c n r1 r2 := fun r1 r2 hn => ⟨bc, bs, Nat.le_refl _, Nat.le_refl _, sp_no (by omega) (by omega) (hX (-1) (by unfold sMove; rw [if_neg hn]) (by decide))⟩
  refine ⟨R.1.1, sp_person R (fun j hj ep => ⟨R.1.1, sp_grave R (fun g hg ex => ⟨fun z => (nomatch z), fun b3 e3 => ⟨fun z => (nomatch z), fun b4 e4 => ?_⟩⟩) (fun hno => ⟨fun z => (nomatch z), fun b3 e3 => ⟨fun _ => bad _ _ fun q => hno q.2.1, fun b4 e4 => (nomatch e4)⟩⟩)⟩) (fun hno => ⟨R.1.1, sp_grave R (fun g hg ex => ⟨fun _ => bad _ _ fun q => hno q.1, fun b3 e3 => (nomatch e3)⟩) (fun hno2 => ⟨fun _ => bad _ _ fun q => hno q.1, fun b3 e3 => (nomatch e3)⟩)⟩)⟩
  have e4 : A 1 g = b4 := Option.some.inj e4
  subst e4
  have hm := rc_gt R hg
  obtain ⟨g1, g2, g3, g4, g5, g6⟩ := R.2.2.2.2.1 g hg
  have e606 : zi h 606 (A 1 g) = sa σ 606 g := g2 606 (by simp [rcGi])
  have xc : x.toNatClampNeg = g := by rw [ex]; exact nI_clamp (by omega)
  have pc : p.toNatClampNeg = j := by rw [ep]; exact nI_clamp (by omega)
  rw [xc] at bad
  -- behind the first checks
  have go : ¬ sa σ 606 g = 4 → (¬ c < 0 ∧ ¬ sColumns σ g ≤ c) → (n = -1 ∨ ∃ i, i < sn σ 2 ∧ n = nI i) → fc_X5_move_57 G b Q XE h bc bs c n (some (A 0 j)) (some (A 1 g)) := by
    intro w4 wc wn
    have base : sMove σ p x c n = sMoveG σ j g c n := by unfold sMove; rw [xc, pc, if_pos ⟨⟨j, hj, ep⟩, ⟨g, hg, ex⟩, w4, wc, wn⟩]
    rw [base] at hX hQ
    obtain ⟨p1, p2, p3, p4, p5⟩ := R.2.2.2.1 j hj
    have m14 : zt h (A 0 j) ∈ [14] := by rw [p1]; decide
    have e711 : zi h 711 (A 0 j) = sa σ 711 j := p2 711 (by simp [rcPi])
    have e712 : zi h 712 (A 0 j) = sa σ 712 j := p2 712 (by simp [rcPi])
    have e708 : zi h 708 (A 0 j) = sa σ 708 j := p2 708 (by simp [rcPi])
    have e709 : zi h 709 (A 0 j) = sa σ 709 j := p2 709 (by simp [rcPi])
    have w710 := (W.1.1 j hj).2
    have inj1 := fun i j hi hj => rc_inj1 R (p := i) (q := j) hi hj
    have is710 : zr h 710 (A 0 j) = some (A 1 g) ↔ sa σ 710 j = nI g := by rw [p4]; exact rfx_is (by omega) w710 hg inj1
    have no710 : zr h 710 (A 0 j) = none ↔ sa σ 710 j = -1 := by rw [p4]; exact rfx_no (by omega) w710
    unfold sMoveG at hX hQ
    -- where it lay
    have s90 : ¬ (sa σ 710 j = nI g ∧ sa σ 711 j = c) → fc_X5_move_85 G b Q XE h (bc - 0) (bs - 0) c n (some (A 0 j)) (some (A 1 g)) := by
      intro w1
      rw [if_neg w1] at hX hQ
      have bad3 : ¬ (¬ sa σ 710 j = -1 ∧ ¬ 2 ≤ sa σ 712 j ∧ ¬ sa σ 10 (sa σ 710 j).toNatClampNeg = 5) → fc_X5_move_126 G b Q XE h (bc - 0 - 0) (bs - 0 - 0) c n (some (A 0 j)) (some (A 1 g)) := fun hn => ⟨_, _, Nat.le_refl _, Nat.le_refl _, sp_no (by omega) (by omega) (hX (-3) (by rw [if_pos hn]) (by decide))⟩
      refine ⟨0, 0, Nat.zero_le _, Nat.zero_le _, sp_ok ⟨_, rfl, m14, fun z => bad3 fun q => q.1 (no710.mp z), fun b6 z => ⟨m14, fun z2 => bad3 fun q => q.2.1 (e712 ▸ z2), fun z2 => ⟨m14, ?_⟩⟩⟩⟩
      have n710 : ¬ sa σ 710 j = -1 := fun y => by rw [no710.mpr y] at z; cases z
      obtain ⟨u, hu, eu⟩ := w710.resolve_left n710
      have uc : (sa σ 710 j).toNatClampNeg = u := by rw [eu]; exact nI_clamp (by omega)
      have ru : zr h 710 (A 0 j) = some (A 1 u) := by rw [p4, eu, rfx_some _ (by omega)]
      rw [ru] at z
      have z : A 1 u = b6 := Option.some.inj z
      subst z
      rw [e712] at z2
      rw [uc] at bad3 hX hQ
      have mu := rc_gt R hu
      have e6u : zi h 606 (A 1 u) = sa σ 606 u := (R.2.2.2.2.1 u hu).2.1 606 (by simp [rcGi])
      refine sp_needs R hu ?_
      by_cases k5 : sa σ 10 u = 5
      · rw [if_pos k5]
        exact ⟨fun _ => bad3 fun q => q.2.2 k5, fun y => absurd rfl y⟩
      rw [if_neg k5]
      refine ⟨fun y => absurd y (by decide), fun _ => ⟨0, 0, Nat.zero_le _, Nat.zero_le _, sp_ok ⟨_, rfl, m14, fun r6 e6 => ?_⟩⟩⟩
      rw [ru] at e6
      subst e6
      rw [if_neg (fun q => q ⟨n710, z2, k5⟩)] at hX hQ
      refine ⟨_, rfl, mu, fun y => ?_, fun y => ?_⟩
      · rw [e6u] at y
        exact ⟨_, _, Nat.le_refl _, Nat.le_refl _, sp_no (by omega) (by omega) (hX (-4) (by rw [if_pos y]) (by decide))⟩
      rw [e6u] at y
      rw [if_neg (fun q => q y)] at hX hQ
      have hlyu := (W.2.1 u hu).2
      have hlyg := (W.2.1 g hg).2
      -- the rest, for the one above
      have s182 : ∀ c1 s1, 3 ≤ c1 → 130 ≤ s1 → fc_X5_move_182 G b Q XE h c1 s1 c n (some (A 0 j)) (some (A 1 g)) (some (A 1 u)) ((sAbove σ j).map (A 0)) := by
        intro c1 s1 hc1 hs1
        have abm : ∀ q, sAbove σ j = some q → q ∈ sl σ 1 u ∧ sa σ 711 q = sa σ 711 j ∧ q < sn σ 2 := by
          intro q hq
          unfold sAbove at hq
          by_cases d1 : sa σ 712 j = 1
          · rw [if_pos d1, uc] at hq
            obtain ⟨a1, a2, a3⟩ := sIn_mem hq
            exact ⟨a1, a2, hlyu q a1⟩
          · rw [if_neg d1] at hq; cases hq
        -- it is taken
        have take : sHinders σ j n = false → ∀ c1 s1, 3 ≤ c1 → 130 ≤ s1 → fc_X5_move_211 G b Q XE h c1 s1 c (some (A 0 j)) (some (A 1 g)) (some (A 1 u)) ((sAbove σ j).map (A 0)) := by
          intro hh c1 s1 hc1 hs1
          rw [if_neg (by rw [hh]; decide)] at hX hQ
          refine ⟨0, 0, Nat.zero_le _, Nat.zero_le _, sp_ok ⟨_, rfl, m14, m14, R.1.1, ?_⟩⟩
          rw [e708, e709]
          refine sp_why2 R W (q := some j) hg (fun p e => by cases e; exact ⟨hj, h700 j hj⟩) (hH g hg) ⟨fun w => ?_, fun w => ?_⟩
          · rw [if_pos w] at hX
            exact ⟨_, _, Nat.le_refl _, Nat.le_refl _, sp_no (by omega) (by omega) (hX _ rfl (sWhyG_r w))⟩
          rw [if_neg (fun q => q w)] at hQ
          obtain ⟨j', ej', n4, hcol, k0, k2, htk, hmv, h51, hroom, hag⟩ := sWhyG_0 w
          have ju : j ∈ sl σ 1 u := (hY.2 j hj).2 u hu eu
          refine ⟨0, 0, Nat.zero_le _, Nat.zero_le _, sp_ok ⟨_, rfl, mu, fun _ => ⟨mu, ?_⟩⟩⟩
          have Lu := rc_lyi R hu
          obtain ⟨i, i1, i2, i3⟩ := erase_split ju
          have inj0 := fun i j hi hj => rc_inj0 R (p := i) (q := j) hi hj
          refine ⟨_, (R.2.2.2.2.1 u hu).2.2.2.2.1, Lu.1, zl_remove Lu p1 (i := i) (by rw [List.getElem?_map, i1]; rfl) (fun k hk => by
              rw [List.getElem?_map]
              intro q
              cases hlk : (sl σ 1 u)[k]? with
              | none => rw [hlk] at q; cases q
              | some y =>
                rw [hlk] at q
                have : A 0 y = A 0 j := Option.some.inj q
                have hy2 := hlyu y (List.mem_of_getElem? hlk)
                have := inj0 y j hy2 hj this
                rw [this] at hlk
                exact i2 k hk hlk) fun h6 hL6 hA6 => ?_⟩
          have R6 := rc_L R (k := 1) (l := (sl σ 1 u).erase j) (by omega) hu (by omega) (by rw [i3, List.map_append, List.map_take, List.map_drop]) hL6 hA6
          have W6 : sRef (slu σ 1 u ((sl σ 1 u).erase j)) := sRef_ll W (by omega) fun q hq => hlyu q (List.mem_of_mem_erase hq)
          -- and laid
          have lay : ∀ (σ2 : ZS) (E2 : Nat → Nat) (h9 : ZH), σ2 = sLift σ j → rcAll G F h0 A E2 h9 σ2 cb b → sRef σ2 → sn σ2 = sn σ → sy σ2 = sy σ → (sl σ2 1 g).length ≤ 40 → sa σ2 708 j = sa σ 708 j → sRoom σ2 g c (sa σ2 203 0) = sRoom σ g c (sa σ 203 0) → fc_X5_move_289 G b Q XE h9 (c1 - 0 - 0) (s1 - 0 - 0) c (some (A 0 j)) (some (A 1 g)) := by
            intro σ2 E2 h9 es R2 W2 en ey el e8 er
            have hj2 : j < sn σ2 2 := by rw [en]; exact hj
            have hg2 : g < sn σ2 1 := by rw [en]; exact hg
            obtain ⟨x1, x2, -⟩ := R2.2.2.2.1 j hj2
            have z708 : zi h9 708 (A 0 j) = sa σ 708 j := (x2 708 (by simp [rcPi])).trans e8
            refine ⟨_, rfl, by rw [x1]; decide, R2.1.1, 3, 130, (by omega : 3 ≤ c1), (by omega : 130 ≤ s1), ?_⟩
            rw [z708]
            refine sp_laid R2 W2 hj2 (by rw [ey]; have := (hY.2 j hj).1; omega) hg2 ?_ el (Nat.le_refl _) (Nat.le_refl _) fun A' E' h' R' _ => ⟨R'.1.1, sp_paid R' fun h7 R7 => ?_⟩
            · rw [er]; exact Int32.not_lt.mpr hroom
            · refine hQ _ _ A' E' h7 ?_ ?_ R7
              · rw [es]
              · rw [es]; exact hN g j hg hj w1 ⟨n710, z2, by rw [uc]; exact k5⟩ w
          have inSame : ∀ σ2, sl σ2 1 g = sl (slu σ 1 u ((sl σ 1 u).erase j)) 1 g → (∀ q ∈ sl σ 1 g, sa σ2 711 q = sa σ 711 q ∧ (sa σ2 712 q = sa σ 712 q ∨ (sa σ 711 q = sa σ 711 j ∧ g = u))) → ∀ d, sIn σ2 g c d = sIn σ g c d := by
            intro σ2 hl ha d
            by_cases gu : g = u
            · subst gu
              have nc : ¬ sa σ 711 j = c := fun z => w1 ⟨eu, z⟩
              have e1 : sl σ2 1 g = (sl σ 1 g).erase j := by rw [hl, sl_lu, if_pos ⟨rfl, rfl⟩]
              unfold sIn
              rw [e1]
              have e2 : ((sl σ 1 g).erase j).find? (fun p => decide (sa σ2 711 p = c ∧ sa σ2 712 p = d)) = ((sl σ 1 g).erase j).find? (fun p => decide (sa σ 711 p = c ∧ sa σ 712 p = d)) := find_congr fun q hq => by
                obtain ⟨a1, a2⟩ := ha q (List.mem_of_mem_erase hq)
                rw [a1]
                rcases a2 with a2 | a2
                · rw [a2]
                · have : ¬ sa σ 711 q = c := by rw [a2.1]; exact nc
                  rw [decide_eq_false (fun z => this z.1), decide_eq_false (fun z => this z.1)]
              rw [e2]
              exact find_erase (decide_eq_false fun z => nc z.1)
            · have e1 : sl σ2 1 g = sl σ 1 g := by rw [hl, sl_lu, if_neg (fun z => gu z.2)]
              refine sIn_congr e1 fun q hq => ⟨(ha q hq).1, (ha q hq).2.resolve_right fun z => gu z.2⟩
          have roomSame : ∀ σ2, sl σ2 1 g = sl (slu σ 1 u ((sl σ 1 u).erase j)) 1 g → sa σ2 10 g = sa σ 10 g → sa σ2 203 0 = sa σ 203 0 → (∀ q ∈ sl σ 1 g, sa σ2 711 q = sa σ 711 q ∧ (sa σ2 712 q = sa σ 712 q ∨ (sa σ 711 q = sa σ 711 j ∧ g = u))) → (∀ q, sa σ2 709 q = sa σ 709 q ∧ sa σ2 710 q = sa σ 710 q) → sRoom σ2 g c (sa σ2 203 0) = sRoom σ g c (sa σ 203 0) := by
            intro σ2 hl hk ht ha hr
            have hi := inSame σ2 hl ha
            have ho : ∀ d t, sOpenB σ2 g c d t = sOpenB σ g c d t := fun d t => by
              unfold sOpenB
              rw [hi d]
              cases hs : sIn σ g c d with
              | none => rfl
              | some q => exact decide_eq_decide.mpr (by unfold sRests; rw [(hr q).1, (hr q).2])
            have h5 : sa σ 10 g = 5 → (sl σ2 1 g).length = (sl σ 1 g).length := fun k => by
              have gu : ¬ g = u := fun z => k5 (z ▸ k)
              rw [hl, sl_lu, if_neg (fun z => gu z.2)]
            unfold sRoom sOpen
            rw [hk, hi, ht, ho, ho]
            by_cases kk : sa σ 10 g = 5
            · rw [if_pos kk, if_pos kk, h5 kk]
            · rw [if_neg kk, if_neg kk]
          have len40 : (sl (slu σ 1 u ((sl σ 1 u).erase j)) 1 g).length ≤ 40 := by
            rw [sl_lu]
            by_cases q : 1 = 1 ∧ g = u
            · rw [if_pos q]
              have := (hY.1 u hu).1
              have := List.length_erase_le (a := j) (l := sl σ 1 u)
              omega
            · rw [if_neg q]; exact (hY.1 g hg).1
          cases hab : sAbove σ j with
          | none =>
            refine ⟨fun _ => lay _ _ h6 ?_ R6 W6 rfl rfl len40 rfl (roomSame _ rfl rfl rfl (fun q hq => ⟨rfl, Or.inl rfl⟩) fun q => ⟨rfl, rfl⟩), fun b7 e7 => (nomatch e7)⟩
            unfold sLift
            rw [hab, uc]
          | some q =>
            obtain ⟨aq1, aq2, aq3⟩ := abm q hab
            refine ⟨fun e7 => (nomatch e7), fun b7 e7 => ?_⟩
            have e7 : A 0 q = b7 := Option.some.inj e7
            subst e7
            refine ⟨by rw [R6.1.1]; decide, (R6.2.2.2.1 q aq3).1, ?_⟩
            rw [R6.1.2.1]
            refine sp_rests R6 aq3 (W.1.1 q aq3).2 (fun rq => ⟨fun _ => lay _ _ h6 ?_ R6 W6 rfl rfl len40 rfl (roomSame _ rfl rfl rfl (fun q hq => ⟨rfl, Or.inl rfl⟩) fun q => ⟨rfl, rfl⟩), fun z => absurd z (by decide)⟩) (fun rq => ⟨fun z => absurd rfl z, fun _ => ⟨by rw [(R6.2.2.2.1 q aq3).1]; decide, fun h9 e9 => ?_⟩⟩)
            · unfold sLift
              rw [hab, uc]
              exact (if_pos rq).symm
            · have R9 : rcAll G F h0 A _ h9 (sau (slu σ 1 u ((sl σ 1 u).erase j)) 712 q 2) cb b := e9 ▸ rc_Pi R6 aq3 (f := 712) (x := 2) (by simp [rcPi])
              have W9 : sRef (sau (slu σ 1 u ((sl σ 1 u).erase j)) 712 q 2) := sRef_at W6 (fun k i hk => by rw [sa_au, if_neg (by simp at hk; omega)]) rfl rfl rfl
              refine lay _ _ h9 ?_ R9 W9 rfl rfl len40 rfl (roomSame _ rfl rfl rfl (fun y hy => ⟨rfl, ?_⟩) fun q => ⟨rfl, rfl⟩)
              · unfold sLift
                rw [hab, uc]
                exact (if_neg rq).symm
              · by_cases yq : y = q
                · right
                  rw [yq]
                  refine ⟨aq2, ?_⟩
                  have y1 := ((hY.1 g hg).2 y hy).2
                  have y2 := ((hY.1 u hu).2 q aq1).2
                  rw [yq, y2] at y1
                  exact ((nI_eq (by omega) (by omega)).mp y1).symm
                · left
                  rw [sa_au, if_neg (fun z => yq z.2)]; rfl
        cases hab : sAbove σ j with
        | none =>
          rw [hab] at take
          exact ⟨fun _ => take (by unfold sHinders; rw [hab]) c1 s1 hc1 hs1, fun b1 e1 => (nomatch e1)⟩
        | some q =>
          obtain ⟨aq1, aq2, aq3⟩ := abm q hab
          rw [hab] at take
          refine ⟨fun e1 => (nomatch e1), fun b1 e1 => ?_⟩
          have e1 : A 0 q = b1 := Option.some.inj e1
          subst e1
          obtain ⟨x1, x2, -⟩ := R.2.2.2.1 q aq3
          refine ⟨hb4, x1, ?_⟩
          rw [e203]
          refine sp_rests R aq3 (W.1.1 q aq3).2 (fun rq => ⟨fun z => absurd z (by decide), fun _ => ⟨by rw [x1]; decide, fun z => ?_, fun z => ?_⟩⟩) (fun rq => ⟨fun _ => take ?_ c1 s1 hc1 hs1, fun z => absurd rfl z⟩)
          · rw [x2 700 (by simp [rcPi])] at z
            have hh : sHinders σ j n = true := by
              unfold sHinders
              rw [hab]
              exact decide_eq_true ⟨rq, z⟩
            rw [if_pos hh] at hX
            exact ⟨_, _, Nat.le_refl _, Nat.le_refl _, sp_no (by omega) (by omega) (hX (-8) rfl (by decide))⟩
          · rw [x2 700 (by simp [rcPi])] at z
            refine take ?_ c1 s1 hc1 hs1
            unfold sHinders
            rw [hab]
            exact decide_eq_false fun y => y.2 z
          · unfold sHinders
            rw [hab]
            exact decide_eq_false fun y => rq y.1
      refine ⟨0, 0, Nat.zero_le _, Nat.zero_le _, sp_ok ⟨_, rfl, m14, fun z => ?_, fun z => ⟨m14, _, rfl, ?_⟩⟩⟩
      · rw [e712] at z
        have : sAbove σ j = none := by unfold sAbove; rw [if_neg z]
        have s := s182 (bc - 0 - 0 - 0 - 0) (bs - 0 - 0 - 0 - 0) (by omega) (by omega)
        rw [this] at s
        exact s
      · rw [e712] at z
        have : sAbove σ j = sIn σ u (sa σ 711 j) 0 := by unfold sAbove; rw [if_pos z, uc]
        rw [e711]
        refine sp_in R hu hlyu ?_
        rw [← this]
        exact s182 _ _ (by omega) (by omega)
    refine ⟨0, 0, Nat.zero_le _, Nat.zero_le _, sp_ok ⟨_, rfl, m14, fun z => s90 fun q => z (is710.mpr q.1), fun z => ⟨m14, fun z2 => ?_, fun z2 => s90 fun q => z2 (e711.trans q.2)⟩⟩⟩
    rw [e711] at z2
    rw [if_pos ⟨is710.mp z, z2⟩] at hX
    exact ⟨_, _, Nat.le_refl _, Nat.le_refl _, sp_no (by omega) (by omega) (hX (-1) rfl (by decide))⟩
  refine ⟨hm, fun w => bad _ _ fun q => q.2.2.1 (e606 ▸ w), fun w4 => sp_isColumn R hg (fun wc => ⟨fun z => absurd z (by decide), fun _ => ⟨fun z => ?_, fun z => ⟨R.1.1, sp_person R (fun i hi en => ⟨fun z => (nomatch z), fun b7 e7 => ?_⟩) (fun hno => ⟨fun _ => bad _ _ fun q => q.2.2.2.2.elim z hno, fun b7 e7 => (nomatch e7)⟩)⟩⟩⟩) (fun wc => ⟨fun _ => bad _ _ fun q => wc q.2.2.2.1, fun z => absurd rfl z⟩)⟩
  · exact go (fun q => w4 (e606.trans q)) wc (Or.inl z)
  · exact go (fun q => w4 (e606.trans q)) wc (Or.inr ⟨i, hi, en⟩)
end ZMV
