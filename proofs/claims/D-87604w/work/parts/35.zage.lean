/-! METHODS of the component on the picture of a book: the order of those it is offered to. -/
set_option maxRecDepth 100000
section ZAE
variable {G : Nat × Nat × Nat} {F : Nat → Prop} {h0 h h' : ZH} {A A' : ZA} {E E' : Nat → Nat} {σ σ' : ZS} {cb b : Nat} {C : Nat → List Nat}
theorem nodup_len : ∀ (n : Nat) (l : List Nat), l.Nodup → (∀ x ∈ l, x < n) → l.length ≤ n := by
  intro n
  induction n with
  | zero =>
    intro l hd hx
    cases l with
    | nil => exact Nat.le_refl _
    | cons a l => exact absurd (hx a List.mem_cons_self) (Nat.not_lt_zero _)
  | succ n ih =>
    intro l hd hx
    have h1 := ih (l.erase n) (hd.erase n) fun x hxe => by
      have := hx x (List.mem_of_mem_erase hxe)
      have hne := (List.Nodup.mem_erase_iff hd).mp hxe
      omega
    have := @List.length_erase Nat _ _ n l
    split at this <;> omega
/-- the order has nobody twice -/
def sOO (σ : ZS) (g : Nat) : Prop := (sl σ 0 g).Nodup ∧ ∀ p ∈ sl σ 0 g, p < sn σ 2
def sOrd (σ : ZS) (g p : Nat) : ZS := if sa σ 702 p = 0 ∧ ¬ p ∈ sl σ 0 g then slu σ 0 g (sl σ 0 g ++ [p]) else σ
def sOrdO (σ : ZS) (g : Nat) (x : Int32) : ZS := if x = -1 then σ else sOrd σ g x.toNatClampNeg
def sOrdL (σ : ZS) (g : Nat) (l : List Nat) : ZS := l.foldl (fun s p => sOrd s g p) σ
theorem sOrd_el {g p : Nat} : sn (sOrd σ g p) = sn σ ∧ (∀ k i, sa (sOrd σ g p) k i = sa σ k i) ∧ sy (sOrd σ g p) = sy σ ∧ ∀ k i, ¬ (k = 0 ∧ i = g) → sl (sOrd σ g p) k i = sl σ k i := by
  unfold sOrd
  split
  · exact ⟨rfl, fun _ _ => rfl, rfl, fun k i q => by rw [sl_lu, if_neg q]⟩
  · exact ⟨rfl, fun _ _ => rfl, rfl, fun _ _ _ => rfl⟩
theorem sOrd_OO {g p : Nat} (O : sOO σ g) (hp : p < sn σ 2) : sOO (sOrd σ g p) g := by
  unfold sOO
  rw [sOrd_el.1]
  unfold sOrd
  split
  · rename_i q
    rw [sl_lu, if_pos ⟨rfl, rfl⟩]
    refine ⟨List.nodup_append.mpr ⟨O.1, by simp, fun a ha b hb => ?_⟩, fun y hy => ?_⟩
    · rw [List.mem_singleton.mp hb]
      exact fun z => q.2 (z ▸ ha)
    · rcases List.mem_append.mp hy with z | z
      · exact O.2 y z
      · rw [List.mem_singleton.mp z]; exact hp
  · exact O
theorem sOrdO_el {g : Nat} {x : Int32} : sn (sOrdO σ g x) = sn σ ∧ (∀ k i, sa (sOrdO σ g x) k i = sa σ k i) ∧ sy (sOrdO σ g x) = sy σ ∧ ∀ k i, ¬ (k = 0 ∧ i = g) → sl (sOrdO σ g x) k i = sl σ k i := by
  unfold sOrdO
  split
  · exact ⟨rfl, fun _ _ => rfl, rfl, fun _ _ _ => rfl⟩
  · exact sOrd_el
theorem sOrdO_OO {g : Nat} {x : Int32} (O : sOO σ g) (h31 : sn σ 2 < 2 ^ 31) (hx : sOk (sn σ 2) x) : sOO (sOrdO σ g x) g := by
  unfold sOrdO
  split
  · exact O
  · rename_i q
    obtain ⟨j, hj, e⟩ := hx.resolve_left q
    exact sOrd_OO O (by rw [e, nI_clamp (by omega)]; exact hj)
theorem sOrdL_el {g : Nat} : ∀ (l : List Nat) (σ : ZS), sn (sOrdL σ g l) = sn σ ∧ (∀ k i, sa (sOrdL σ g l) k i = sa σ k i) ∧ sy (sOrdL σ g l) = sy σ ∧ ∀ k i, ¬ (k = 0 ∧ i = g) → sl (sOrdL σ g l) k i = sl σ k i := by
  intro l
  induction l with
  | nil => intro σ; exact ⟨rfl, fun _ _ => rfl, rfl, fun _ _ _ => rfl⟩
  | cons a l ih =>
    intro σ
    obtain ⟨i1, i2, i3, i4⟩ := ih (sOrd σ g a)
    obtain ⟨j1, j2, j3, j4⟩ := @sOrd_el σ g a
    exact ⟨i1.trans j1, fun k i => (i2 k i).trans (j2 k i), i3.trans j3, fun k i q => (i4 k i q).trans (j4 k i q)⟩
theorem sOrdL_OO {g : Nat} : ∀ (l : List Nat) (σ : ZS), sOO σ g → (∀ p ∈ l, p < sn σ 2) → sOO (sOrdL σ g l) g := by
  intro l
  induction l with
  | nil => intro σ O _; exact O
  | cons a l ih =>
    intro σ O hl
    exact ih (sOrd σ g a) (sOrd_OO O (hl a List.mem_cons_self)) fun p hp => by rw [sOrd_el.1]; exact hl p (List.mem_cons_of_mem _ hp)
theorem sOrdL_s {g : Nat} (l : List Nat) (i : Nat) (p : Nat) (h : l[i]? = some p) : sOrdL σ g (l.take (i + 1)) = sOrd (sOrdL σ g (l.take i)) g p := by
  have e : l.take (i + 1) = l.take i ++ [p] := by rw [List.take_succ, h]; rfl
  unfold sOrdL
  rw [e, List.foldl_append]; rfl
/-- the heap behind: as it was, or the order's list was written -/
def zOr (A : ZA) (E E' : Nat → Nat) (h h' : ZH) (j : Nat) : Prop := (h' = h ∧ E' = E) ∨ ∃ e', zA h h' (A 5 j) (E j) e' ∧ E' = upE E j e'
theorem sp_orders (R : rcAll G F h0 A E h σ cb b) {Q : ZH → Prop} {g bc bs : Nat} {x : Int32} (hg : g < sn σ 1) (h40 : sn σ 2 ≤ 40) (O : sOO σ g) (hx : sOk (sn σ 2) x) (hc : 1 ≤ bc) (hs : 64 ≤ bs)
    (hQ : ∀ E' h', rcAll G F h0 A E' h' (sOrdO σ g x) cb b → zOr A E E' h h' (4 + 3 * g) → Q h') : fc_X5_orders G b Q h bc bs (some (A 1 g)) (rfx (A 0) x) := by
  have hm := rc_gt R hg
  have L := rc_ord R hg
  have h611 := (R.2.2.2.2.1 g hg).2.2.2.1
  rcases rfx_ok (ad := A 0) (by omega) hx with ⟨e, e2⟩ | ⟨p, hp, e, e2⟩
  · rw [e2]
    have eo : sOrdO σ g x = σ := by unfold sOrdO; rw [if_pos e]
    rw [eo] at hQ
    exact ⟨fun _ => hQ E h R (Or.inl ⟨rfl, rfl⟩), fun b1 z => (nomatch z)⟩
  · rw [e2]
    have xc : x.toNatClampNeg = p := by rw [e]; exact nI_clamp (by omega)
    have eo : sOrdO σ g x = sOrd σ g p := by
      unfold sOrdO
      rw [if_neg (by rw [e]; exact fun z => nI_pos (by omega : p < 2 ^ 31) (z ▸ (by decide : (-1 : Int32) < 0))), xc]
    rw [eo] at hQ
    unfold sOrd at hQ
    obtain ⟨p1, p2, p3, p4, p5⟩ := R.2.2.2.1 p hp
    have m14 : zt h (A 0 p) ∈ [14] := by rw [p1]; decide
    have e702 : zi h 702 (A 0 p) = sa σ 702 p := p2 702 (by simp [rcPi])
    have len := nodup_len (sn σ 2) (sl σ 0 g) O.1 O.2
    have mem : A 0 p ∈ (sl σ 0 g).map (A 0) ↔ p ∈ sl σ 0 g := by
      refine ⟨fun w => ?_, fun w => List.mem_map_of_mem w⟩
      obtain ⟨q, hq, eq⟩ := List.mem_map.mp w
      rw [← rc_inj0 R (O.2 q hq) hp eq]; exact hq
    refine ⟨fun z => (nomatch z), fun b1 z => ?_⟩
    have z : A 0 p = b1 := Option.some.inj z
    subst z
    refine ⟨m14, fun w => ?_, fun w => ⟨_, rfl, hm, _, h611, L.1, zl_contains L p1 (by rw [List.length_map]; omega) ⟨fun w2 => ?_, fun w2 => ⟨hm, L.1, 1, 64, hc, hs, ?_⟩⟩⟩⟩
    · rw [e702] at w
      rw [if_neg (fun q => w q.1)] at hQ
      exact hQ E h R (Or.inl ⟨rfl, rfl⟩)
    · have : A 0 p ∈ (sl σ 0 g).map (A 0) := Classical.byContradiction fun q => w2 (if_neg q)
      rw [if_neg (fun q => q.2 (mem.mp this))] at hQ
      exact hQ E h R (Or.inl ⟨rfl, rfl⟩)
    · have hn : ¬ A 0 p ∈ (sl σ 0 g).map (A 0) := fun q => by rw [if_pos q] at w2; exact absurd w2 (by decide)
      rw [e702] at w
      rw [if_pos ⟨w, fun q => hn (mem.mpr q)⟩] at hQ
      refine zl_add L (by rw [List.length_map]; omega) (by rw [p1]; decide) (Nat.le_refl _) (Nat.le_refl _) fun e' h' hL hA => ?_
      exact hQ _ h' (rc_L R (k := 0) (l := sl σ 0 g ++ [p]) (by omega) hg (by omega) (by rw [List.map_append, List.map_cons, List.map_nil]) hL hA) (Or.inr ⟨e', hA, rfl⟩)
abbrev sSibl (σ : ZS) (x p : Nat) : Prop := ¬ p = x ∧ ((¬ sa σ 705 x = -1 ∧ sParent σ (sa σ 705 x).toNatClampNeg p) ∨ (¬ sa σ 706 x = -1 ∧ sParent σ (sa σ 706 x).toNatClampNeg p))
theorem sp_sibling (R : rcAll G F h0 A E h σ cb b) (W : sWF σ) (h40 : sn σ 2 ≤ 40) {Q : Int32 → Prop} {x p : Nat} (hx : x < sn σ 2) (hp : p < sn σ 2) (hQ1 : sSibl σ x p → Q 1) (hQ0 : ¬ sSibl σ x p → Q 0) : fc_X16_isSiblingOf G (A 0 x) Q h (some (A 0 p)) := by
  obtain ⟨p1, p2, p3, p4, p5⟩ := R.2.2.2.1 x hx
  have m14 : zt h (A 0 x) ∈ [14] := by rw [p1]; decide
  unfold sSibl at hQ1 hQ0
  have w705 := (W.1 x hx).1 705 (by simp [rcPr])
  have w706 := (W.1 x hx).1 706 (by simp [rcPr])
  have e705 : zr h 705 (A 0 x) = rfx (A 0) (sa σ 705 x) := p3 705 (by simp [rcPr])
  have e706 : zr h 706 (A 0 x) = rfx (A 0) (sa σ 706 x) := p3 706 (by simp [rcPr])
  have two : ¬ p = x → ¬ (¬ sa σ 705 x = -1 ∧ sParent σ (sa σ 705 x).toNatClampNeg p) → fc_X16_isSiblingOf_23 G (A 0 x) Q h (some (A 0 p)) := by
    intro npx n5
    refine ⟨m14, fun w => hQ0 fun q => ?_, fun b1 w => ⟨m14, ?_⟩⟩
    · rw [e706, rfx_no (by omega) w706] at w
      exact q.2.elim n5 fun z => z.1 w
    · rw [e706] at w
      rcases rfx_ok (ad := A 0) (by omega) w706 with ⟨e, e2⟩ | ⟨u, hu, e, e2⟩
      · rw [e2] at w; cases w
      · rw [e2] at w
        have w : A 0 u = b1 := Option.some.inj w
        subst w
        have uc : (sa σ 706 x).toNatClampNeg = u := by rw [e]; exact nI_clamp (by omega)
        have n6 : ¬ sa σ 706 x = -1 := by rw [e]; exact fun z => nI_pos (by omega : u < 2 ^ 31) (z ▸ (by decide : (-1 : Int32) < 0))
        refine ⟨(R.2.2.2.1 u hu).1, sp_parent R W hu hp (fun y => ⟨fun z => absurd z (by decide), fun _ => hQ1 ⟨npx, Or.inr ⟨n6, by rw [uc]; exact y⟩⟩⟩) (fun y => ⟨fun _ => hQ0 fun q => q.2.elim n5 fun z => ?_, fun z => absurd rfl z⟩)⟩
        rw [uc] at z
        exact y z.2
  refine ⟨fun w => hQ0 fun q => q.1 ?_, fun w => ⟨m14, fun w2 => two (fun q => w (by rw [q])) fun q => ?_, fun b1 w2 => ⟨m14, ?_⟩⟩⟩
  · exact rc_inj0 R hp hx (Option.some.inj w)
  · rw [e705, rfx_no (by omega) w705] at w2
    exact q.1 w2
  · have npx : ¬ p = x := fun q => w (by rw [q])
    rw [e705] at w2
    rcases rfx_ok (ad := A 0) (by omega) w705 with ⟨e, e2⟩ | ⟨u, hu, e, e2⟩
    · rw [e2] at w2; cases w2
    · rw [e2] at w2
      have w2 : A 0 u = b1 := Option.some.inj w2
      subst w2
      have uc : (sa σ 705 x).toNatClampNeg = u := by rw [e]; exact nI_clamp (by omega)
      have n5 : ¬ sa σ 705 x = -1 := by rw [e]; exact fun z => nI_pos (by omega : u < 2 ^ 31) (z ▸ (by decide : (-1 : Int32) < 0))
      refine ⟨(R.2.2.2.1 u hu).1, sp_parent R W hu hp (fun y => ⟨fun _ => hQ1 ⟨npx, Or.inl ⟨n5, by rw [uc]; exact y⟩⟩, fun z => absurd z (by decide)⟩) (fun y => ⟨fun z => absurd rfl z, fun _ => two npx fun z => ?_⟩)⟩
      rw [uc] at z
      exact y z.2
/-- the place of one more in a list by age -/
def sPos (σ : ZS) (l : List Nat) (p : Nat) : Nat → Nat
  | 0 => 0
  | j + 1 => if sa σ 701 (l.getD j 0) ≤ sa σ 701 p then j + 1 else sPos σ l p j
def sIns (σ : ZS) (l : List Nat) (p : Nat) : List Nat := l.take (sPos σ l p l.length) ++ p :: l.drop (sPos σ l p l.length)
def sKidB (σ : ZS) (x : Nat) (ch : Bool) (p : Nat) : Bool := if ch then decide (sParent σ x p) else decide (sSibl σ x p)
def sKids (σ : ZS) (x : Nat) (ch : Bool) : Nat → List Nat
  | 0 => []
  | i + 1 => if sKidB σ x ch i = true then sIns σ (sKids σ x ch i) i else sKids σ x ch i
theorem sPos_le {l : List Nat} {p : Nat} : ∀ j, sPos σ l p j ≤ j := by
  intro j
  induction j with
  | zero => exact Nat.le_refl _
  | succ j ih => unfold sPos; split <;> omega
theorem sIns_mem {l : List Nat} {p q : Nat} : q ∈ sIns σ l p ↔ q = p ∨ q ∈ l := by
  unfold sIns
  rw [List.mem_append, List.mem_cons]
  have e := List.take_append_drop (sPos σ l p l.length) l
  constructor
  · rintro (h | h | h)
    · exact Or.inr (List.mem_of_mem_take h)
    · exact Or.inl h
    · exact Or.inr (List.mem_of_mem_drop h)
  · rintro (h | h)
    · exact Or.inr (Or.inl h)
    · rw [← e] at h
      rcases List.mem_append.mp h with z | z
      · exact Or.inl z
      · exact Or.inr (Or.inr z)
theorem sIns_len {l : List Nat} {p : Nat} : (sIns σ l p).length = l.length + 1 := by
  unfold sIns
  have := sPos_le (σ := σ) (l := l) (p := p) l.length
  rw [List.length_append, List.length_cons, List.length_take, List.length_drop]
  omega
theorem sKids_el {x : Nat} {ch : Bool} : ∀ i, (sKids σ x ch i).length ≤ i ∧ ∀ q ∈ sKids σ x ch i, q < i := by
  intro i
  induction i with
  | zero => exact ⟨Nat.le_refl _, fun q hq => absurd hq (List.not_mem_nil)⟩
  | succ i ih =>
    unfold sKids
    split
    · refine ⟨by rw [sIns_len]; omega, fun q hq => ?_⟩
      rcases sIns_mem.mp hq with z | z
      · omega
      · have := ih.2 q z; omega
    · exact ⟨by omega, fun q hq => by have := ih.2 q hq; omega⟩
theorem sp_pget (R : rcAll G F h0 A E h σ cb b) {Q : Option Nat → Prop} {i : Nat} (hi : i < sn σ 2) (hQ : Q (some (A 0 i))) : fc_J2_get G (A 5 2) Q h (nI i) := by
  have L0 := rc_ls R (j := 2) (Or.inl (by omega))
  have hlen : (rcCon A σ 2).length = sn σ 2 := by rw [rc_con2]; simp
  refine zl_get L0 (by omega) ?_
  have e : (rcCon A σ 2)[i]? = some (A 0 i) := by rw [rc_con2]; simp [hi]
  rw [e]; exact hQ
theorem sp_byAge (R : rcAll G F h0 A E h σ cb b) (W : sRef σ) {Q : ZH → Prop} {g x bc bs : Nat} {ch : Bool} {v3 : Int32} (hv : v3 = if ch then 1 else 0) (hg : g < sn σ 1) (hx : x < sn σ 2) (O : sOO σ g) (hc : 2 + 2 * sn σ 2 ≤ bc) (hs : 3 + 128 * sn σ 2 ≤ bs)
    (hQ : ∀ E' h', rcAll G F h0 A E' h' (sOrdL σ g (sKids σ x ch (sn σ 2))) cb b → Q h') : fc_X5_ordersByAge G b Q h bc bs (some (A 1 g)) (some (A 0 x)) v3 := by
  have h40 := W.2.2.2.2.1 2
  refine ⟨by omega, by omega, fun a1 h2 z e2 => ⟨1, 0, by omega, by omega, ?_⟩⟩
  subst e2
  have n0 : (0 : Int32) = nI 0 := by decide
  have gG := R.2.2.1.2.2.1
  have gne : G.1 ≠ a1 := fun q => by rw [← q, gG.1] at z; exact absurd z (by decide)
  rw [n0]
  refine zl_newN (n := 0) (by omega) (by rw [zt_new, if_pos rfl]) (by rw [zi_new, if_pos rfl]) ⟨by rw [zt_new, if_neg gne]; exact gG.1, by rw [zl_new]; exact gG.2⟩ (Nat.le_refl _) (Nat.le_refl _) fun h5 e La he q1 q2 => ?_
  have fr5 : zFr h h5 := (zFr.new z).lst z he q1 q2
  have T0 : zTmp h h5 a1 e [] := ⟨fr5.m, La, z, he.elim (fun q => Or.inr (q ▸ gG.2)) (fun q => Or.inl ((zFr.new z).z q))⟩
  -- the second loop: orders
  have loop2 : ∀ (l : List Nat), (∀ q ∈ l, q < sn σ 2) → l.length ≤ 40 → ∀ (n k : Nat) (E1 : Nat → Nat) (hh : ZH) (e : Nat) (c1 s1 : Nat), k ≤ l.length → l.length + 1 ≤ k + n → l.length - k ≤ c1 → 64 * (l.length - k) ≤ s1 → (∀ E' h', rcAll G F h0 A E' h' (sOrdL σ g l) cb b → Q h') →
      rcAll G F h0 A E1 hh (sOrdL σ g (l.take k)) cb b → zL hh a1 e (l.map (A 0)) → a1 ≠ A 5 (4 + 3 * g) → (E1 (4 + 3 * g) ≠ e ∨ zl hh e = 0) → fc_X5_ordersByAge_126 G b Q n hh c1 s1 (some (A 1 g)) (some a1) (nI k) := by
    intro l hl l40 n
    induction n with
    | zero => intro k E1 hh e c1 s1 h1 h2; omega
    | succ n ih =>
      intro k E1 hh e c1 s1 h1 h2 h3 h4 hQ Rk Lt na ne
      obtain ⟨u1, u2, u3, u4⟩ := sOrdL_el (g := g) (l.take k) σ
      refine ⟨a1, rfl, Lt.1, zl_size Lt ⟨fun w => ?_, fun w => ⟨Lt.1, ?_⟩⟩⟩
      · rw [List.length_map] at w
        have ek : k = l.length := by have := (nI_leI (by omega) (by omega)).mp w; omega
        rw [ek, List.take_length] at Rk
        exact hQ E1 hh Rk
      · rw [List.length_map] at w
        have hk : k < l.length := Classical.byContradiction fun q => w (nI_le (by omega) (by omega))
        have hgi : l[k]? = some l[k] := by simp [hk]
        have hp : l[k] < sn σ 2 := hl _ (List.getElem_mem hk)
        have es := sOrdL_s (σ := σ) (g := g) l k _ hgi
        generalize l[k] = p at *
        have hg1 : g < sn (sOrdL σ g (l.take k)) 1 := by rw [u1]; exact hg
        have hp1 : p < sn (sOrdL σ g (l.take k)) 2 := by rw [u1]; exact hp
        have Ok := sOrdL_OO (g := g) (l.take k) σ O fun q hq => hl q (List.mem_of_mem_take hq)
        refine zl_get Lt (by rw [List.length_map]; exact hk) ?_
        rw [List.getElem?_map, hgi]
        refine ⟨fun b9 e9 => by cases e9; rw [(Rk.2.2.2.1 p hp1).1]; decide, Rk.1.1, 1, 64, by omega, by omega, ?_⟩
        have er : Option.map (A 0) (some p) = rfx (A 0) (nI p) := (rfx_some _ (by omega)).symm
        rw [er]
        refine sp_orders Rk hg1 (by rw [u1]; exact h40) Ok (Or.inr ⟨p, hp1, rfl⟩) (Nat.le_refl _) (Nat.le_refl _) fun E2 h6 R6 hz x7 e7 => ?_
        rw [nI_1] at e7
        subst e7
        have eo : sOrdO (sOrdL σ g (l.take k)) g (nI p) = sOrdL σ g (l.take (k + 1)) := by
          rw [es]
          unfold sOrdO
          rw [if_neg (fun z : nI p = -1 => nI_pos (by omega : p < 2 ^ 31) (z ▸ (by decide : (-1 : Int32) < 0))), nI_clamp (by omega)]
        rw [eo] at R6
        rcases hz with ⟨y1, y2⟩ | ⟨e', hA, y2⟩
        · rw [y1] at R6 ⊢
          rw [y2] at R6
          exact ih (k + 1) E1 hh e _ _ (by omega) (by omega) (by omega) (by omega) hQ R6 Lt na ne
        · have Lt6 : zL h6 a1 e (l.map (A 0)) := Lt.kept hA na (by
            by_cases q : e = E1 (4 + 3 * g)
            · right
              have hz : zl hh e = 0 := ne.resolve_left fun y => y q.symm
              have := Lt.2.2.2.2.1
              exact List.eq_nil_of_length_eq_zero (by omega)
            · exact Or.inl q)
          refine ih (k + 1) E2 h6 e _ _ (by omega) (by omega) (by omega) (by omega) hQ R6 Lt6 na ?_
          rw [y2, upE_eq rfl]
          have ze : zl h6 e = zl hh e := (hA.1 e Lt.ne.2.1).2.1
          rcases hA.2.2.2 with y | y
          · rw [y, ze]; exact ne
          · exact Or.inl fun q => Lt.ne.2.1 (q ▸ y)
  -- the first loop: by age
  have loop1 : ∀ (n i : Nat) (hh : ZH) (e : Nat) (c1 s1 : Nat), i ≤ sn σ 2 → sn σ 2 + 1 ≤ i + n → (sn σ 2 - i) + sn σ 2 ≤ c1 → 64 * (sn σ 2 - i) + 64 * sn σ 2 ≤ s1 → zTmp h hh a1 e ((sKids σ x ch i).map (A 0)) → fc_X5_ordersByAge_13 G b Q n hh c1 s1 (some (A 1 g)) (some (A 0 x)) v3 (some a1) (nI i) := by
    intro n
    induction n with
    | zero => intro i hh e c1 s1 h1 h2; omega
    | succ n ih =>
      intro i hh e c1 s1 h1 h2 h3 h4 T
      have Rh := rc_fm R T.1
      have hb4 : zt hh b ∈ [4] := by rw [Rh.1.1]; decide
      have L2 := rc_ls Rh (j := 2) (Or.inl (by omega))
      have hlen : (rcCon A σ 2).length = sn σ 2 := by rw [rc_con2]; simp
      obtain ⟨kl, km⟩ := sKids_el (σ := σ) (x := x) (ch := ch) i
      refine ⟨hb4, A 5 2, Rh.1.2.2.2.2.2.1, L2.1, zl_size L2 ⟨fun w => ?_, fun w => ⟨hb4, L2.1, ?_⟩⟩⟩
      · rw [hlen] at w
        have ei : i = sn σ 2 := by have := (nI_leI (by omega) (by omega)).mp w; omega
        subst ei
        have lj : rcLive σ (4 + 3 * g) := Or.inr (Or.inr ⟨by omega, by omega, by omega⟩)
        have ord := (rc_ls R lj).ne
        refine ⟨_, loop2 (sKids σ x ch (sn σ 2)) km (by omega) ((sKids σ x ch (sn σ 2)).length + 1) 0 E hh e c1 s1 (by omega) (by omega) (by omega) (by omega) hQ Rh T.2.1 (fun q => ord.1 (q ▸ T.2.2.1)) ?_⟩
        rcases T.2.2.2 with y | y
        · exact Or.inl fun q => ord.2.1 (q ▸ y)
        · by_cases q : zt h e = 0
          · exact Or.inl fun q2 => ord.2.1 (q2 ▸ q)
          · right; rw [(T.1 e q).2.1]; exact y
      · rw [hlen] at w
        have hi : i < sn σ 2 := Classical.byContradiction fun q => w (nI_le (by omega) (by omega))
        have es : sKids σ x ch (i + 1) = if sKidB σ x ch i = true then sIns σ (sKids σ x ch i) i else sKids σ x ch i := rfl
        have Pi := Rh.2.2.2.1 i hi
        have Lt := T.2.1
        -- not one of them
        have skip : sKidB σ x ch i = false → fc_X5_ordersByAge_117 G b Q (fun h9 c9 s9 y0 y1 y2 y3 y4 => fc_X5_ordersByAge_13 G b Q n h9 c9 s9 y0 y1 y2 y3 y4) hh c1 s1 (some (A 1 g)) (some (A 0 x)) v3 (some a1) (nI i) := by
          intro hk x1 e1
          rw [nI_1] at e1
          subst e1
          rw [hk, if_neg (by decide)] at es
          exact ih (i + 1) hh e c1 s1 (by omega) (by omega) (by omega) (by omega) (by rw [es]; exact T)
        -- one of them
        have put : sKidB σ x ch i = true → fc_X5_ordersByAge_67 G b Q (fun h9 c9 s9 y0 y1 y2 y3 y4 => fc_X5_ordersByAge_13 G b Q n h9 c9 s9 y0 y1 y2 y3 y4) hh c1 s1 (some (A 1 g)) (some (A 0 x)) v3 (some a1) (nI i) (some (A 0 i)) := by
          intro hk
          rw [hk, if_pos rfl] at es
          refine ⟨a1, rfl, Lt.1, zl_size Lt ?_⟩
          rw [List.length_map]
          have add : ∀ j, j ≤ (sKids σ x ch i).length → sPos σ (sKids σ x ch i) i (sKids σ x ch i).length = j → fc_X5_ordersByAge_108 G b Q (fun h9 c9 s9 y0 y1 y2 y3 y4 => fc_X5_ordersByAge_13 G b Q n h9 c9 s9 y0 y1 y2 y3 y4) hh c1 s1 (some (A 1 g)) (some (A 0 x)) v3 (some a1) (nI i) (some (A 0 i)) (nI j) := by
            intro j hj ej
            refine ⟨a1, rfl, Lt.1, 1, 64, by omega, by omega, zl_addAt Lt (by rw [List.length_map]; exact hj) (by rw [List.length_map]; omega) (by rw [Pi.1]; decide) (Nat.le_refl _) (Nat.le_refl _) fun e' h4' hL hA x1 e1 => ?_⟩
            rw [nI_1] at e1
            subst e1
            refine ih (i + 1) h4' e' _ _ (by omega) (by omega) (by omega) (by omega) (T.step ?_ hA)
            rw [es]
            unfold sIns
            rw [ej, List.map_append, List.map_cons, List.map_take, List.map_drop]
            exact hL
          have inner : ∀ (m j : Nat), j ≤ (sKids σ x ch i).length → j + 1 ≤ m → sPos σ (sKids σ x ch i) i (sKids σ x ch i).length = sPos σ (sKids σ x ch i) i j → fc_X5_ordersByAge_74 G b Q (fun h9 c9 s9 y0 y1 y2 y3 y4 => fc_X5_ordersByAge_13 G b Q n h9 c9 s9 y0 y1 y2 y3 y4) m hh c1 s1 (some (A 1 g)) (some (A 0 x)) v3 (some a1) (nI i) (some (A 0 i)) (nI j) := by
            intro m
            induction m with
            | zero => intro j h1 h2; omega
            | succ m ihm =>
              intro j hj hm ej
              refine ⟨fun w => add j hj ?_, fun w => ⟨a1, rfl, Lt.1, ?_⟩⟩
              · have : j = 0 := by
                  have := (nI_leI (a := j) (b := 0) (by omega) (by omega)).mp w
                  omega
                rw [ej, this]; rfl
              · have j0 : 0 < j := by
                  refine Nat.pos_of_ne_zero fun q => w ?_
                  rw [q]; decide
                obtain ⟨j', rfl⟩ : ∃ j', j = j' + 1 := ⟨j - 1, by omega⟩
                rw [nI_pred]
                have hgi : (sKids σ x ch i)[j']? = some ((sKids σ x ch i).getD j' 0) := by
                  have : j' < (sKids σ x ch i).length := by omega
                  simp [this]
                have hq : (sKids σ x ch i).getD j' 0 < sn σ 2 := by
                  have := km _ (List.mem_of_getElem? hgi)
                  omega
                have ej2 : sPos σ (sKids σ x ch i) i (j' + 1) = if sa σ 701 ((sKids σ x ch i).getD j' 0) ≤ sa σ 701 i then j' + 1 else sPos σ (sKids σ x ch i) i j' := rfl
                refine zl_get Lt (by rw [List.length_map]; omega) ?_
                rw [List.getElem?_map, hgi]
                generalize (sKids σ x ch i).getD j' 0 = q at *
                obtain ⟨y1, y2, -⟩ := Rh.2.2.2.1 q hq
                have mq : zt hh (A 0 q) ∈ [14] := by rw [y1]; decide
                refine ⟨fun b9 e9 => by cases e9; exact mq, _, rfl, mq, _, rfl, by rw [Pi.1]; decide, ?_⟩
                rw [y2 701 (by simp [rcPi]), Pi.2.1 701 (by simp [rcPi])]
                refine ⟨fun v => add _ hj ?_, fun v x5 e5 => ?_⟩
                · rw [ej, ej2, if_pos v]
                · have : x5 = nI j' := by rw [e5, ← nI_pred j', Int32.sub_eq_add_neg]
                  subst this
                  exact ihm j' (by omega) (by omega) (by rw [ej, ej2, if_neg v])
          exact ⟨(sKids σ x ch i).length + 1, inner _ _ (Nat.le_refl _) (Nat.le_refl _) rfl⟩
        refine sp_pget Rh hi ⟨fun b9 e9 => by cases e9; rw [Pi.1]; decide, fun v => ?_, fun v => ?_⟩
        · have c0 : ch = false := by
            cases ch with
            | false => rfl
            | true => rw [hv] at v; exact absurd v (by decide)
          refine ⟨_, rfl, (Rh.2.2.2.1 x hx).1, sp_sibling Rh W.1 h40 hx hi (fun y => ⟨fun _ => put ?_, fun z => absurd z (by decide)⟩) (fun y => ⟨fun z => absurd rfl z, fun _ => skip ?_⟩)⟩
          · unfold sKidB
            rw [c0]; exact decide_eq_true y
          · unfold sKidB
            rw [c0]; exact decide_eq_false y
        · have c1' : ch = true := by
            cases ch with
            | true => rfl
            | false => rw [hv] at v; exact absurd rfl v
          refine ⟨_, rfl, (Rh.2.2.2.1 x hx).1, sp_parent Rh W.1 hx hi (fun y => ⟨fun z => absurd z (by decide), fun _ => put ?_⟩) (fun y => ⟨fun _ => skip ?_, fun z => absurd rfl z⟩)⟩
          · unfold sKidB
            rw [c1']; exact decide_eq_true y
          · unfold sKidB
            rw [c1']; exact decide_eq_false y
  exact ⟨sn σ 2 + 1, loop1 _ 0 h5 e _ _ (by omega) (by omega) (by omega) (by omega) T0⟩
end ZAE
