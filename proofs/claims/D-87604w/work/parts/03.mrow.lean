/-! THE MODEL SIDE, rows: the one object of ChurchyardBookModel as registers S (whole numbers) and arrays M, by the place of the field in TX6 -/
set_option maxRecDepth 100000
def zm_kd : Nat → Nat := fun k => match k with
  | 3 => 1
  | 4 => 1
  | 5 => 1
  | 6 => 1
  | 7 => 2
  | 8 => 1
  | 10 => 1
  | 11 => 1
  | 12 => 1
  | 13 => 1
  | 14 => 1
  | 15 => 1
  | 16 => 1
  | 17 => 1
  | 18 => 1
  | 19 => 1
  | 20 => 2
  | 21 => 1
  | 22 => 1
  | 23 => 1
  | 24 => 1
  | 25 => 1
  | 26 => 1
  | 28 => 1
  | 29 => 2
  | 30 => 1
  | 31 => 1
  | 32 => 1
  | 33 => 1
  | 34 => 1
  | 35 => 1
  | 36 => 1
  | 37 => 1
  | 38 => 1
  | 39 => 1
  | 41 => 1
  | 42 => 1
  | 43 => 1
  | 46 => 1
  | 48 => 1
  | _ => 0
def zm_len : Nat → Nat := fun k => match k with
  | 3 => 8
  | 4 => 8
  | 5 => 96
  | 6 => 96
  | 7 => 96
  | 8 => 2880
  | 10 => 150
  | 11 => 150
  | 12 => 150
  | 13 => 150
  | 14 => 150
  | 15 => 150
  | 16 => 150
  | 17 => 150
  | 18 => 150
  | 19 => 150
  | 20 => 22500
  | 21 => 22500
  | 22 => 150
  | 23 => 150
  | 24 => 1200
  | 25 => 6000
  | 26 => 150
  | 28 => 150
  | 29 => 150
  | 30 => 150
  | 31 => 150
  | 32 => 150
  | 33 => 150
  | 34 => 150
  | 35 => 150
  | 36 => 150
  | 37 => 150
  | 38 => 150
  | 39 => 150
  | 41 => 2600
  | 42 => 2600
  | 43 => 2600
  | 46 => 2400
  | 48 => 2400
  | _ => 0
def zm_V (ad : Nat → Nat) (S : Nat → Int32) (k : Nat) : Value := if zm_kd k = 0 then .int (S k) else .ref (ad k)
/-- a place of an array gets a new number -/
def zm_up (M : Nat → Nat → Int32) (k i : Nat) (x : Int32) : Nat → Nat → Int32 := fun k' j => if k' = k ∧ j = i then x else M k' j
/-- a register gets a new number -/
def zm_su (S : Nat → Int32) (k : Nat) (x : Int32) : Nat → Int32 := fun k' => if k' = k then x else S k'
def zm_P (D : va_G) (cI cZ : ClassId) (ad : Nat → Nat) (o : Nat) (S : Nat → Int32) (M : Nat → Nat → Int32) (H : Heap) : Prop :=
  t_OB o (D.1 0) 50 (D.2 0) H (zm_V ad S) ∧ ∀ k, k < 50 → zm_kd k ≠ 0 → H[ad k]? = some (arrV (if zm_kd k = 1 then cI else cZ) (zm_len k) (fun j => .int (M k j)))
def zm_A (ad : Nat → Nat) (o : Nat) : Nat → Prop := fun q => q = o ∨ ∃ k, k < 50 ∧ zm_kd k ≠ 0 ∧ q = ad k
def zm_Ad (ad : Nat → Nat) (o : Nat) : Prop := (∀ i j, i < 50 → j < 50 → zm_kd i ≠ 0 → zm_kd j ≠ 0 → ad i = ad j → i = j) ∧ ∀ i, i < 50 → zm_kd i ≠ 0 → ad i ≠ o
abbrev zm_cl : List vw_C := [(RX6, TX6, 50)]
abbrev zm_K (D : va_G) (cI cZ : ClassId) (U : State) : Prop := va_K D zm_cl [(cI, .int), (cZ, .boolean)] U
def zm_H (D : va_G) (cI cZ : ClassId) (ad : Nat → Nat) (o : Nat) (S : Nat → Int32) (M : Nat → Nat → Int32) (s : State) (H : Heap) (locs : List Loc) : Prop :=
  zm_P D cI cZ ad o S M H ∧ va_S (zm_A ad o) s.heap H locs
/-- what holds all through a method of the model -/
def zm_Cx (p : Program) (s : State) (m : MethodId) (args : Array Value) (meth : Method) (c : Code) (cc : ByteArray) (nL : Nat) (ret : Option FieldType) (D : va_G) (cI cZ : ClassId) (ad : Nat → Nat) (o : Nat) : Prop :=
  p.tables.exec = Jvm.exec ∧ c.code = cc ∧ c.maxLocals = nL ∧ s.vm.findClass RX6 = some m.cls ∧ (∀ w ∈ lw_all, w.before args s = true) ∧ meth.sig.returnType = ret ∧ meth.locks = false ∧ zm_K D cI cZ s ∧ zm_Ad ad o
abbrev zm_R (d : Nat) : Room := { frames := d, cells := 0, slots := 0, locals := 40 * d }
abbrev zm_QS (Q : Int32 → (Nat → Int32) → (Nat → Nat → Int32) → Prop) (D : va_G) (cI cZ : ClassId) (ad : Nat → Nat) (o : Nat) : Array Value → State → Outcome → State → Prop :=
  va_Qi (fun (r : Int32) (u : (Nat → Int32) × (Nat → Nat → Int32)) => Q r u.1 u.2) (fun u t => zm_P D cI cZ ad o u.1 u.2 t.heap) (zm_A ad o)
abbrev zm_QV (Q : (Nat → Int32) → (Nat → Nat → Int32) → Prop) (D : va_G) (cI cZ : ClassId) (ad : Nat → Nat) (o : Nat) : Array Value → State → Outcome → State → Prop :=
  va_Qv (fun (u : (Nat → Int32) × (Nat → Nat → Int32)) => Q u.1 u.2) (fun u t => zm_P D cI cZ ad o u.1 u.2 t.heap) (zm_A ad o)
/-- a method's contract: an answer -/
def zm_Mi (l : Launch) (y : MethodName) (ws : List Cond) (d : Nat) (D : va_G) (cI cZ : ClassId) (ad : Nat → Nat) (o : Nat) (As : List Value) (S : Nat → Int32) (M : Nat → Nat → Int32) (Q : Int32 → (Nat → Int32) → (Nat → Nat → Int32) → Prop) : Prop :=
  Met l y ws (zm_R d) (va_Pc (.ref o :: As) (fun U => zm_P D cI cZ ad o S M U.heap ∧ zm_K D cI cZ U)) (zm_QS Q D cI cZ ad o) 0 0 (zm_A ad o)
def zm_Mv (l : Launch) (y : MethodName) (ws : List Cond) (d : Nat) (D : va_G) (cI cZ : ClassId) (ad : Nat → Nat) (o : Nat) (As : List Value) (S : Nat → Int32) (M : Nat → Nat → Int32) (Q : (Nat → Int32) → (Nat → Nat → Int32) → Prop) : Prop :=
  Met l y ws (zm_R d) (va_Pc (.ref o :: As) (fun U => zm_P D cI cZ ad o S M U.heap ∧ zm_K D cI cZ U)) (zm_QV Q D cI cZ ad o) 0 0 (zm_A ad o)
section ZM
variable {p : Program} {l : Launch} {e : Env} {R : Room} {s : State} {m : MethodId} {args : Array Value} {below : List Frame} {meth : Method} {c : Code} {H : Heap} {locs : List Loc} {cells slots : Nat} {Q : State → Prop}
variable {cc : ByteArray} {nL pc : Nat} {ret : Option FieldType} {ls : Array Slot} {rest : List Value} {D : va_G} {cI cZ : ClassId} {ad : Nat → Nat} {o : Nat} {S : Nat → Int32} {M : Nat → Nat → Int32}
theorem zm_fld (X : zm_Cx p s m args meth c cc nL ret D cI cZ ad o) {k : Nat} (hk : k < 50) {idx : Nat} (hl : Cond.fieldLink RX6 idx RX6 (TX6 k).2.1 (TX6 k).2.2.1 ∈ lw_all) :
    ∃ (cf : Nat) (kf : Class) (fi : Nat) (f : Field), s.fieldFound? (TX6 k).1 (TX6 k).2.1 (TX6 k).2.2.1 = some (cf, kf, fi, f) ∧ f.slot = D.2 0 k ∧ f.isStatic = false ∧ s.fieldFound? RX6 (TX6 k).2.1 (TX6 k).2.2.1 = some (cf, kf, fi, f) := by
  obtain ⟨hx, hb, hml, hown, hts, hr, hlk, hK, hAd⟩ := X
  obtain ⟨hS, hfc, kC, hkC, hkind⟩ := hK.1 0 (RX6, TX6, 50) rfl
  obtain ⟨cf, kf, fi, f, hi, hsl⟩ := hS k hk
  have h1 : (TX6 k).1 = RX6 := by
    have : ∀ k, k < 50 → (TX6 k).1 = RX6 := by decide +kernel
    exact this k hk
  exact ⟨cf, kf, fi, f, hi, hsl, (u_facts hfc hkC (u_lays hts in_X6 hk) hi).1, h1 ▸ hi⟩
theorem zm_getf (X : zm_Cx p s m args meth c cc nL ret D cI cZ ad o) (hH : zm_H D cI cZ ad o S M s H locs) (k : Nat) (hk : k < 50) {v : Value} (hv : zm_V ad S k = v) {idx : Nat} (hl : Cond.fieldLink RX6 idx RX6 (TX6 k).2.1 (TX6 k).2.2.1 ∈ lw_all)
    (hdg : decode cc pc = .ok (.getfield idx, 3)) (kk : W p l e R s m args below meth c H locs cells slots Q (F0 m (pc + 3) ls (v :: rest))) : W p l e R s m args below meth c H locs cells slots Q (F0 m pc ls (.ref o :: rest)) := by
  obtain ⟨cf, kf, fi, f, hi, hsl, hst, hi2⟩ := zm_fld X hk hl
  obtain ⟨hx, hb, hml, hown, hts, hr, hlk, hK, hAd⟩ := X
  obtain ⟨⟨⟨cell, q1, q2, q3, q4⟩, -⟩, -⟩ := hH
  refine W.getf hx hb hown (hts _ hl) hi2 hst q1 (by rw [q3]; exact fun h => by cases h) (v := v) ?_ rfl rfl hdg kk
  rw [hsl, q4 k hk, hv]
theorem zm_apart (X : zm_Cx p s m args meth c cc nL ret D cI cZ ad o) : ∀ x y, x < 50 → y < 50 → x ≠ y → D.2 0 x ≠ D.2 0 y := by
  obtain ⟨hx, hb, hml, hown, hts, hr, hlk, hK, hAd⟩ := X
  exact va_apart (own := RX6) hts in_X6 tyX6 tyX6_ok nmX6 hK rfl
theorem zm_puti (X : zm_Cx p s m args meth c cc nL ret D cI cZ ad o) (hH : zm_H D cI cZ ad o S M s H locs) (k : Nat) (hk : k < 50) (h0 : zm_kd k = 0) (hfin : (TX6 k).2.2.2 = false) (hd : parseFieldDescriptor (TX6 k).2.2.1 = some .int) {x : Int32} {idx : Nat} (hl : Cond.fieldLink RX6 idx RX6 (TX6 k).2.1 (TX6 k).2.2.1 ∈ lw_all)
    (hdg : decode cc pc = .ok (.putfield idx, 3))
    (kk : ∀ (S' : Nat → Int32) (H1 : Heap) (locs1 : List Loc), S' = zm_su S k x → zm_H D cI cZ ad o S' M s H1 locs1 → W p l e R s m args below meth c H1 locs1 cells slots Q (F0 m (pc + 3) ls rest)) : W p l e R s m args below meth c H locs cells slots Q (F0 m pc ls (.int x :: .ref o :: rest)) := by
  have hap := zm_apart X
  obtain ⟨cf, kf, fi, f, hi, hsl, hst, hi2⟩ := zm_fld X hk hl
  obtain ⟨hx, hb, hml, hown, hts, hr, hlk, hK, hAd⟩ := X
  obtain ⟨⟨⟨cell, q1, q2, q3, q4⟩, hM⟩, hS0⟩ := hH
  obtain ⟨hS, hfc, kC, hkC, hkind⟩ := hK.1 0 (RX6, TX6, 50) rfl
  have hlay := hts _ (in_X6 _ (u_in_lay hk))
  unfold u_lay at hlay
  rw [if_neg (by rw [hfin]; decide)] at hlay
  have h6 := u_store (v := .int x) hfc hkC hkind hlay hi hd rfl rfl
  refine W.putK hx hb (f := f) ⟨hown, hts _ hl, ⟨_, _, _, hi2⟩, hst⟩ (by rw [q2]; exact h6) q1 q3 (by rw [hsl]; exact k2_hasslot (q4 k hk)) rfl rfl hdg fun H' e1 e2 e3 => ?_
  rw [hsl] at e1 ⊢
  refine kk _ H' _ rfl ⟨⟨t_OB.to (V := updV (zm_V ad S) k (.int x)) ⟨_, e1, q2, q3, t_set q4 hap hk _⟩ (fun j _ => ?_), fun j hj hj0 => ?_⟩, hS0.put e2 e3 (Or.inl rfl)⟩
  · unfold updV zm_V zm_su
    by_cases hjk : j = k
    · subst hjk; simp [h0]
    · simp [hjk]
  · rw [e3 _ (hAd.2 j hj hj0)]
    exact hM j hj hj0
theorem zm_iald (X : zm_Cx p s m args meth c cc nL ret D cI cZ ad o) (hH : zm_H D cI cZ ad o S M s H locs) (k : Nat) (hk : k < 50) (h1 : zm_kd k = 1) {n : Nat} (hn : zm_len k = n) {i : Int32} (hin : vp_in i n) (hdg : decode cc pc = .ok (.iaload, 1))
    (kk : W p l e R s m args below meth c H locs cells slots Q (F0 m (pc + 1) ls (.int (M k i.toNatClampNeg) :: rest))) : W p l e R s m args below meth c H locs cells slots Q (F0 m pc ls (.int i :: .ref (ad k) :: rest)) := by
  obtain ⟨hx, hb, hml, hown, hts, hr, hlk, hK, hAd⟩ := X
  subst hn
  have hlt : i.toNatClampNeg < zm_len k := Nat.not_le.mp fun q => hin (Or.inr q)
  have hc := hH.1.2 k hk (by rw [h1]; decide)
  rw [if_pos h1] at hc
  exact W.iald (v := .int (M k i.toNatClampNeg)) hx hb hc ((hK.2 0 (cI, .int) rfl).1 _ (fun j => .int (M k j))) (fun q => by cases q) (by rw [arrV_size]; exact hin) (by rw [arrV_read _ _ hlt]) rfl rfl hdg kk
theorem zm_zald (X : zm_Cx p s m args meth c cc nL ret D cI cZ ad o) (hH : zm_H D cI cZ ad o S M s H locs) (k : Nat) (hk : k < 50) (h1 : zm_kd k = 2) {n : Nat} (hn : zm_len k = n) {i : Int32} (hin : vp_in i n) (hdg : decode cc pc = .ok (.baload, 1))
    (kk : W p l e R s m args below meth c H locs cells slots Q (F0 m (pc + 1) ls (.int (M k i.toNatClampNeg) :: rest))) : W p l e R s m args below meth c H locs cells slots Q (F0 m pc ls (.int i :: .ref (ad k) :: rest)) := by
  obtain ⟨hx, hb, hml, hown, hts, hr, hlk, hK, hAd⟩ := X
  subst hn
  have hlt : i.toNatClampNeg < zm_len k := Nat.not_le.mp fun q => hin (Or.inr q)
  have hc := hH.1.2 k hk (by rw [h1]; decide)
  rw [if_neg (by rw [h1]; decide)] at hc
  exact W.zald (v := .int (M k i.toNatClampNeg)) hx hb hc ((hK.2 1 (cZ, .boolean) rfl).1 _ (fun j => .int (M k j))) (fun q => by cases q) (by rw [arrV_size]; exact hin) (by rw [arrV_read _ _ hlt]) rfl rfl hdg kk
theorem zm_stP (hAd : zm_Ad ad o) (hH : zm_H D cI cZ ad o S M s H locs) {k : Nat} (hk : k < 50) (h0 : zm_kd k ≠ 0) {i : Nat} {x : Int32} {H' : Heap}
    (e1 : H'[ad k]? = some (arrV (if zm_kd k = 1 then cI else cZ) (zm_len k) (fun j => .int (zm_up M k i x k j)))) (e2 : H'.size = H.size) (e3 : ∀ q, q ≠ ad k → H'[q]? = H[q]?) :
    zm_H D cI cZ ad o S (zm_up M k i x) s H' (locs ++ [⟨ad k, i⟩]) := by
  obtain ⟨⟨hO, hM⟩, hS0⟩ := hH
  refine ⟨⟨hO.kept (e3 _ fun h => hAd.2 k hk h0 h.symm), fun j hj hj0 => ?_⟩, hS0.put e2 e3 (Or.inr ⟨k, hk, h0, rfl⟩)⟩
  by_cases hjk : j = k
  · subst hjk; exact e1
  · rw [e3 _ fun h => hjk (hAd.1 j k hj hk hj0 h0 h), hM j hj hj0]
    have : (fun i' => Value.int (zm_up M k i x j i')) = (fun i' => Value.int (M j i')) := by
      funext i'; unfold zm_up; rw [if_neg fun h => hjk h.1]
    rw [this]
theorem zm_iast (X : zm_Cx p s m args meth c cc nL ret D cI cZ ad o) (hH : zm_H D cI cZ ad o S M s H locs) (k : Nat) (hk : k < 50) (h1 : zm_kd k = 1) {n : Nat} (hn : zm_len k = n) {i x : Int32} (hin : vp_in i n) (hdg : decode cc pc = .ok (.iastore, 1))
    (kk : ∀ (M' : Nat → Nat → Int32) (H1 : Heap) (locs1 : List Loc), M' = zm_up M k i.toNatClampNeg x → zm_H D cI cZ ad o S M' s H1 locs1 → W p l e R s m args below meth c H1 locs1 cells slots Q (F0 m (pc + 1) ls rest)) : W p l e R s m args below meth c H locs cells slots Q (F0 m pc ls (.int x :: .int i :: .ref (ad k) :: rest)) := by
  obtain ⟨hx, hb, hml, hown, hts, hr, hlk, hK, hAd⟩ := X
  subst hn
  have h0 : zm_kd k ≠ 0 := by rw [h1]; decide
  have hc := hH.1.2 k hk h0
  rw [if_pos h1] at hc
  refine W.iast hx hb hc ((hK.2 0 (cI, .int) rfl).1 _ (fun j => .int (M k j))) (fun q => by cases q) (by rw [arrV_size]; exact hin) rfl rfl hdg fun H1 e z oq => ?_
  refine kk _ H1 _ rfl (zm_stP hAd hH hk h0 ?_ z oq)
  rw [e, if_pos h1, arrV_store]
  congr 2
  funext q
  by_cases hq : q = i.toNatClampNeg
  · subst hq; simp [updV, zm_up]
  · simp [updV, zm_up, hq]
theorem zm_zast (X : zm_Cx p s m args meth c cc nL ret D cI cZ ad o) (hH : zm_H D cI cZ ad o S M s H locs) (k : Nat) (hk : k < 50) (h1 : zm_kd k = 2) {n : Nat} (hn : zm_len k = n) {i x : Int32} (hin : vp_in i n) (hdg : decode cc pc = .ok (.bastore, 1))
    (kk : ∀ (M' : Nat → Nat → Int32) (H1 : Heap) (locs1 : List Loc), M' = zm_up M k i.toNatClampNeg (x &&& 1) → zm_H D cI cZ ad o S M' s H1 locs1 → W p l e R s m args below meth c H1 locs1 cells slots Q (F0 m (pc + 1) ls rest)) : W p l e R s m args below meth c H locs cells slots Q (F0 m pc ls (.int x :: .int i :: .ref (ad k) :: rest)) := by
  obtain ⟨hx, hb, hml, hown, hts, hr, hlk, hK, hAd⟩ := X
  subst hn
  have h0 : zm_kd k ≠ 0 := by rw [h1]; decide
  have hc := hH.1.2 k hk h0
  rw [if_neg (by rw [h1]; decide)] at hc
  refine W.zast hx hb hc ((hK.2 1 (cZ, .boolean) rfl).1 _ (fun j => .int (M k j))) (fun q => by cases q) (by rw [arrV_size]; exact hin) rfl rfl hdg fun H1 e z oq => ?_
  refine kk _ H1 _ rfl (zm_stP hAd hH hk h0 ?_ z oq)
  rw [e, if_neg (by rw [h1]; decide), arrV_store]
  congr 2
  funext q
  by_cases hq : q = i.toNatClampNeg
  · subst hq; simp [updV, zm_up, narrow]
  · simp [updV, zm_up, hq]
theorem zm_back (hH : zm_H D cI cZ ad o S M s H locs) {S1 : Nat → Int32} {M1 : Nat → Nat → Int32} {H1 : Heap} {locs1 : List Loc} {t : State} (ht : t.heap = H1) (hB : zm_P D cI cZ ad o S1 M1 t.heap) (hS : va_S (zm_A ad o) s.heap H1 locs1) : zm_H D cI cZ ad o S1 M1 s H1 locs1 := ⟨ht ▸ hB, hS⟩
theorem zm_recv (X : zm_Cx p s m args meth c cc nL ret D cI cZ ad o) (hH : zm_H D cI cZ ad o S M s H locs) : ∃ cell : Cell, H[o]? = some cell ∧ cell.vm.isStatics = false ∧ s.vm.findClass RX6 = some cell.cls := by
  obtain ⟨hx, hb, hml, hown, hts, hr, hlk, hK, hAd⟩ := X
  obtain ⟨⟨⟨cell, q1, q2, q3, q4⟩, -⟩, -⟩ := hH
  exact ⟨cell, q1, by rw [q3]; rfl, by rw [q2]; exact (hK.1 0 (RX6, TX6, 50) rfl).2.1⟩
theorem zm_pre (X : zm_Cx p s m args meth c cc nL ret D cI cZ ad o) (hH : zm_H D cI cZ ad o S M s H locs) {As : List Value} : PreV s H RX6 o (va_Pc (.ref o :: As) (fun U => zm_P D cI cZ ad o S M U.heap ∧ zm_K D cI cZ U)) As :=
  ⟨fun a U g mk q => ⟨q.1, q.2.1, va_K.moved (u := U) (U := U.calling g mk a) (Vm.Alike.refl U.vm) q.2.2⟩, zm_recv X hH, fun U hU hW => ⟨rfl, by rw [hU]; exact hH.1, va_K.moved hW.alike X.2.2.2.2.2.2.2.1⟩⟩
theorem zm_calli (X : zm_Cx p s m args meth c cc nL ret D cI cZ ad o) (hH : zm_H D cI cZ ad o S M s H locs) {y : MethodName} {ws : List Cond} {d index maxL n : Nat} {bytes : ByteArray} {ret' : Option FieldType} {As : List Value} {Qf : Int32 → (Nat → Int32) → (Nat → Nat → Int32) → Prop} {st0 : List Value}
    (hM : zm_Mi l y ws d D cI cZ ad o As S M Qf) (cw : CallW R s args RX6 RX6 index y bytes maxL ret' ws (zm_R d) 0 0 n) (hn : As.length = n) (hsize : ls.size = nL) (hst : st0 = As.reverse ++ .ref o :: rest) (hcat : (rest.map fun v => v.category).sum ≤ 8) (hdg : decode cc pc = .ok (.invokevirtual index, 3)) (hrc : cells ≤ R.cells) (hrs : slots ≤ R.slots)
    (kk : ∀ (r : Int32) (S1 : Nat → Int32) (M1 : Nat → Nat → Int32) (H1 : Heap) (locs1 : List Loc), Qf r S1 M1 → zm_H D cI cZ ad o S1 M1 s H1 locs1 → W p l e R s m args below meth c H1 locs1 cells slots Q (F0 m (pc + 3) ls (.int r :: rest))) : W p l e R s m args below meth c H locs cells slots Q (F0 m pc ls st0) := by
  subst hst
  exact va_calli (va_runV ⟨X.1, X.2.1, X.2.2.1, X.2.2.2.1, X.2.2.2.2.1⟩ hM cw (zm_pre X hH) rfl hn hsize rfl (lv_room hcat) hdg ⟨hrc, hrs⟩) hH.2 (fun q _ h => h) (fun q h => h) (fun r u t H1 locs1 ht hvm hw hB hz hk hS => kk r u.1 u.2 H1 locs1 hw (zm_back hH ht hB hS))
theorem zm_callv (X : zm_Cx p s m args meth c cc nL ret D cI cZ ad o) (hH : zm_H D cI cZ ad o S M s H locs) {y : MethodName} {ws : List Cond} {d index maxL n : Nat} {bytes : ByteArray} {ret' : Option FieldType} {As : List Value} {Qf : (Nat → Int32) → (Nat → Nat → Int32) → Prop} {st0 : List Value}
    (hM : zm_Mv l y ws d D cI cZ ad o As S M Qf) (cw : CallW R s args RX6 RX6 index y bytes maxL ret' ws (zm_R d) 0 0 n) (hn : As.length = n) (hsize : ls.size = nL) (hst : st0 = As.reverse ++ .ref o :: rest) (hcat : (rest.map fun v => v.category).sum ≤ 8) (hdg : decode cc pc = .ok (.invokevirtual index, 3)) (hrc : cells ≤ R.cells) (hrs : slots ≤ R.slots)
    (kk : ∀ (S1 : Nat → Int32) (M1 : Nat → Nat → Int32) (H1 : Heap) (locs1 : List Loc), Qf S1 M1 → zm_H D cI cZ ad o S1 M1 s H1 locs1 → W p l e R s m args below meth c H1 locs1 cells slots Q (F0 m (pc + 3) ls rest)) : W p l e R s m args below meth c H locs cells slots Q (F0 m pc ls st0) := by
  subst hst
  exact va_callv (va_runV ⟨X.1, X.2.1, X.2.2.1, X.2.2.2.1, X.2.2.2.2.1⟩ hM cw (zm_pre X hH) rfl hn hsize rfl (lv_room hcat) hdg ⟨hrc, hrs⟩) hH.2 (fun q _ h => h) (fun q h => h) (fun u t H1 locs1 ht hvm hw hB hz hk hS => kk u.1 u.2 H1 locs1 hw (zm_back hH ht hB hS))
theorem zm_iret (X : zm_Cx p s m args meth c cc nL ret D cI cZ ad o) (hH : zm_H D cI cZ ad o S M s H locs) {ty : FieldType} (hret : ret = some ty) {Qf : Int32 → (Nat → Int32) → (Nat → Nat → Int32) → Prop} {x : Int32} (hn : narrow ty (.int x) = .int x) (hF : Qf x S M) (hdg : decode cc pc = .ok (.ireturn, 1)) :
    W p l e R s m args below meth c H locs 0 0 (MQ below (zm_QS Qf D cI cZ ad o) args s 0 0 (zm_A ad o)) (F0 m pc ls [.int x]) :=
  W.zret X.1 X.2.1 (X.2.2.2.2.2.1.trans hret) hn (fun t ht hW => ⟨⟨x, (S, M), rfl, hF, by show zm_P D cI cZ ad o S M t.heap; rw [ht]; exact hH.1⟩, hH.2.F ht⟩) hH.2.2.2 hdg X.2.2.2.2.2.2.1
theorem zm_vret (X : zm_Cx p s m args meth c cc nL none D cI cZ ad o) (hH : zm_H D cI cZ ad o S M s H locs) {Qf : (Nat → Int32) → (Nat → Nat → Int32) → Prop} (hF : Qf S M) (hdg : decode cc pc = .ok (.return_, 1)) :
    W p l e R s m args below meth c H locs 0 0 (MQ below (zm_QV Qf D cI cZ ad o) args s 0 0 (zm_A ad o)) (F0 m pc ls []) :=
  W.vret X.1 X.2.1 X.2.2.2.2.2.1 (fun t ht hW => ⟨⟨(S, M), rfl, hF, by show zm_P D cI cZ ad o S M t.heap; rw [ht]; exact hH.1⟩, hH.2.F ht⟩) hH.2.2.2 hdg X.2.2.2.2.2.2.1
end ZM
section ZME
variable {l : Launch} {D : va_G} {cI cZ : ClassId} {ad : Nat → Nat} {o : Nat} {S : Nat → Int32} {M : Nat → Nat → Int32}
theorem zm_ofi {y : MethodName} {cc : ByteArray} {nL d : Nat} {ret : Option FieldType} {As : List Value} {Q : Int32 → (Nat → Int32) → (Nat → Nat → Int32) → Prop} (hy : y.cls = RX6) (hAd : zm_Ad ad o) (hnl : (lg_sl (.ref o :: As)).length ≤ nL)
    (body : ∀ (p : Program) (e : Env) (s : State) (m : MethodId) (args : Array Value) (below : List Frame) (meth : Method) (c : Code) (H : Heap) (locs : List Loc) (ls : Array Slot), zm_Cx p s m args meth c cc nL ret D cI cZ ad o → zm_H D cI cZ ad o S M s H locs → lv_has ls nL (lv_args 0 (.ref o :: As)) → W p l e (zm_R d) s m args below meth c H locs 0 0 (MQ below (zm_QS Q D cI cZ ad o) args s 0 0 (zm_A ad o)) (F0 m 0 ls [])) :
    zm_Mi l y (ws_ y cc nL ret) d D cI cZ ad o As S M Q := by
  refine Met.ofW (cc := cc) (maxL := nL) (ret := ret) (by rw [hy]; decide) rfl ?_
  intro p e s m args below meth c s₁ B hml hv
  obtain ⟨rfl, hP, hK⟩ := hv
  have hts := atoms_spec (ws := ws_ y cc nL ret) B.pre
  have hts : ∀ w ∈ lw_all, w.before _ s = true := fun w h => hts w (List.mem_cons_of_mem _ h)
  have hown : s.vm.findClass RX6 = some m.cls := hy ▸ findClass_of_methodNamed B.named
  have hl := lv_entry (.ref o :: As) (n := nL) hnl
  rw [lg_entry_eq]
  exact body p e s m _ below meth c s.heap [] _ ⟨B.exec, B.bytes, hml, hown, hts, B.returns, B.notSynchronized, hK, hAd⟩ ⟨hP, va_S.rf⟩ hl
theorem zm_ofv {y : MethodName} {cc : ByteArray} {nL d : Nat} {As : List Value} {Q : (Nat → Int32) → (Nat → Nat → Int32) → Prop} (hy : y.cls = RX6) (hAd : zm_Ad ad o) (hnl : (lg_sl (.ref o :: As)).length ≤ nL)
    (body : ∀ (p : Program) (e : Env) (s : State) (m : MethodId) (args : Array Value) (below : List Frame) (meth : Method) (c : Code) (H : Heap) (locs : List Loc) (ls : Array Slot), zm_Cx p s m args meth c cc nL none D cI cZ ad o → zm_H D cI cZ ad o S M s H locs → lv_has ls nL (lv_args 0 (.ref o :: As)) → W p l e (zm_R d) s m args below meth c H locs 0 0 (MQ below (zm_QV Q D cI cZ ad o) args s 0 0 (zm_A ad o)) (F0 m 0 ls [])) :
    zm_Mv l y (ws_ y cc nL none) d D cI cZ ad o As S M Q := by
  refine Met.ofW (cc := cc) (maxL := nL) (ret := none) (by rw [hy]; decide) rfl ?_
  intro p e s m args below meth c s₁ B hml hv
  obtain ⟨rfl, hP, hK⟩ := hv
  have hts := atoms_spec (ws := ws_ y cc nL none) B.pre
  have hts : ∀ w ∈ lw_all, w.before _ s = true := fun w h => hts w (List.mem_cons_of_mem _ h)
  have hown : s.vm.findClass RX6 = some m.cls := hy ▸ findClass_of_methodNamed B.named
  have hl := lv_entry (.ref o :: As) (n := nL) hnl
  rw [lg_entry_eq]
  exact body p e s m _ below meth c s.heap [] _ ⟨B.exec, B.bytes, hml, hown, hts, B.returns, B.notSynchronized, hK, hAd⟩ ⟨hP, va_S.rf⟩ hl
end ZME
