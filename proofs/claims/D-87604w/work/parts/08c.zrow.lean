/-! THE COMPONENT SIDE, more rows -/
set_option maxRecDepth 100000
theorem lw_SU {own : String} {idx : Nat} {y : MethodName} {b : ByteArray} {L : Nat} {r : Option FieldType} (h1 : Cond.methodLink own idx y ∈ lw_all) (h2 : Cond.sameMethod y.cls y.cls y.name y.desc ∈ lw_all) (h3 : Cond.superclass own y.cls ∈ lw_all) (h4 : Cond.instanceMethod y ∈ lw_all) (h5 : Cond.initialized y.cls ∈ lw_all) (h6 : Cond.code y b L r ∈ lw_all) : GoodIn lw_all (va_wsSU own idx y (ws_ y b L r)) := by
  refine lw_app ?_ (lw_meth h6)
  intro w hw
  simp only [List.mem_cons, List.not_mem_nil, or_false] at hw
  rcases hw with e | e | e | e | e
  · rw [e]; exact h1
  · rw [e]; exact h2
  · rw [e]; exact h3
  · rw [e]; exact h4
  · rw [e]; exact h5
theorem lw_F {own : String} {idx : Nat} {C : String} {x y : MethodName} {b : ByteArray} {L : Nat} {r : Option FieldType} (h1 : Cond.methodLink own idx x ∈ lw_all) (h2 : Cond.selects C x y ∈ lw_all) (h3 : Cond.instanceMethod y ∈ lw_all) (h4 : Cond.initialized y.cls ∈ lw_all) (h5 : Cond.code y b L r ∈ lw_all) : GoodIn lw_all (va_wsF own idx C x y (ws_ y b L r)) := by
  refine lw_app ?_ (lw_meth h5)
  intro w hw
  simp only [List.mem_cons, List.not_mem_nil, or_false] at hw
  rcases hw with e | e | e | e
  · rw [e]; exact h1
  · rw [e]; exact h2
  · rw [e]; exact h3
  · rw [e]; exact h4
theorem zc_kI (x : Int32) : (Value.int x).category = 1 := rfl
theorem zc_kR (x : Nat) : (Value.ref x).category = 1 := rfl
theorem zc_k1 (r : Option Nat) : (va_rf r).category = 1 := by cases r <;> rfl
theorem zc_rm_le {R : Room} {d d1 n n1 : Nat} (h : zc_rm R d n) (h1 : d1 ≤ d) (h2 : n1 ≤ 21) : zc_rm R d1 n1 := ⟨by have := h.1; omega, h2, by have := h.2.2; omega⟩
def zc_ix : Nat → List Value → List (Nat × Value)
  | _, [] => []
  | i, v :: vs => (i, v) :: zc_ix (i + 1) vs
theorem zc_ags (vs : List Value) (h : ∀ v ∈ vs, v.category = 1) : ∀ i, lv_args i vs = zc_ix i vs := by
  induction vs with
  | nil => intro i; rfl
  | cons v vs ih =>
    intro i
    have h1 := h v List.mem_cons_self
    simp only [lv_args, zc_ix, h1]
    rw [if_neg (by decide), ih (fun w hw => h w (List.mem_cons_of_mem _ hw))]
theorem zc_slen (vs : List Value) (h : ∀ v ∈ vs, v.category = 1) : (lg_sl vs).length = vs.length := by
  induction vs with
  | nil => rfl
  | cons v vs ih =>
    have h1 := h v List.mem_cons_self
    have h2 := ih (fun w hw => h w (List.mem_cons_of_mem _ hw))
    unfold lg_sl at h2 ⊢
    rw [List.flatMap_cons, List.length_append, h2, if_neg (by rw [h1]; decide)]
    simp; omega
theorem zc_slle {vs : List Value} {n : Nat} (h : ∀ v ∈ vs, v.category = 1) (hn : vs.length ≤ n) : (lg_sl vs).length ≤ n := by
  rw [zc_slen vs h]; exact hn
section Z7
variable {p : Program} {l : Launch} {e : Env} {R : Room} {s : State} {m : MethodId} {args : Array Value} {below : List Frame} {meth : Method} {c : Code} {H : Heap} {locs : List Loc} {cells slots : Nat} {Q : State → Prop}
variable {cc : ByteArray} {nL pc : Nat} {ret : Option FieldType} {own : String} {ls : Array Slot} {rest : List Value} {D : va_G} {cA : Nat → ClassId} {P : Nat → Prop} {G : Nat × Nat × Nat} {h : ZH} {cr sr : Nat}
variable {QR : Option Value → ZH → Prop} {XR : String → Nat → ZH → Prop}
theorem zc_objI (X : zc_Cx p l s m args meth c cc nL ret own D cA P G) (hsz : ls.size = nL) {idx : Nat} (hlink : Cond.methodLink own idx Lib.objectInit ∈ lw_all) (hR : 1 ≤ R.frames ∧ 20 ≤ R.locals) {a : Nat} (hcat : (rest.map fun v => v.category).sum ≤ 8) (hdg : decode cc pc = .ok (.invokespecial idx, 3))
    (kk : W p l e R s m args below meth c H locs cells slots Q (F0 m (pc + 3) ls rest)) : W p l e R s m args below meth c H locs cells slots Q (F0 m pc ls (.ref a :: rest)) :=
  W.objInit X.1 X.2.1 X.2.2.2.1 (X.2.2.2.2.1 _ hlink) (zc_KA X zc_sN _ (by decide +kernel)) (zc_KA X zc_sN _ (by decide +kernel)) (g := F0 m pc ls (.ref a :: rest)) rfl (hsz.trans X.2.2.1.symm) rfl hdg hR.1 (by show 2 * 0 + _ + 12 ≤ R.locals; omega) kk
theorem zc_aoP (X : zc_Cx p l s m args meth c cc nL ret own D cA P G) : (Cond.arrayOver (.array (.object "ChurchyardBook$Place"))).before args s = true := X.2.2.2.2.2.2.2.2.2.2.2.2.2.2.2.2.2.2.2.2.2.2.2.2.2.2.2.1
/-- a super call whose landing lies further up -/
theorem zc_callSV {T : State} (X : Stand p l e R s m args below meth c T locs cells slots) (hexec : p.tables.exec = Jvm.exec) {x y : MethodName} {index : Nat} {bytes : ByteArray} {maxL : Nat} {ret : Option FieldType}
    (hown : s.vm.findClass own = some m.cls) (hlink : (Cond.methodLink own index x).before args s = true) (hsame : (Cond.sameMethod x.cls y.cls x.name x.desc).before args s = true) (hxy : y = ⟨y.cls, x.name, x.desc⟩) (hsup : (Cond.superclass own x.cls).before args s = true)
    (hsubs : ∀ ps cM, s.vm.findClass x.cls = some ps → s.vm.findClass y.cls = some cM → s.vm.isSubclass ps cM = true)
    (hinst : (Cond.instanceMethod y).before args s = true) (hcode : (Cond.code y bytes maxL ret).before args s = true) (hno : x.name ≠ "<init>")
    {W : Nat} {Pre : Pt → Array Value → Prop} {Post : Pt → Array Value → Option Value → Pt → Prop} {PostX : Pt → Array Value → Addr → Pt → Prop} (hK : vx_Back l R p e below s args y 3 W Pre Post PostX)
    {b : Addr} {cellB : Cell} {kB : Class} (hcell : T.heap[b]? = some cellB) (hobj : cellB.vm.isStatics = false) (hkB : s.vm.classes[cellB.cls]? = some kB)
    {g : JFrame} (hg : g.method = m) (hsize : g.locals.size = c.maxLocals) {argsL rest : List Value} (hlen : ∀ sig, parseMethodDescriptor y.desc = some sig → argsL.length = sig.parameters.length)
    (hstack : g.stack = argsL.reverse ++ .ref b :: rest) (hW : 2 * g.monitorRoom + (rest.map fun v => v.category).sum ≤ W) (hdg : decode c.code g.pc = .ok (.invokespecial index, 3))
    (hpre : ∀ vm₁, s.WarmedH vm₁ → Pre ⟨T.setVm vm₁, locs, cells, slots⟩ (Value.ref b :: argsL).toArray) :
    (∃ (v : Option Value) (vm₁ : Vm) (B : Pt), s.WarmedH vm₁ ∧ Stand p l e R s m args below meth c B.U B.locs B.cells B.slots ∧ Post ⟨T.setVm vm₁, locs, cells, slots⟩ (Value.ref b :: argsL).toArray v B ∧
      ∀ target, Steps p.tables e below (B.U.setTop { g with pc := g.pc + 3, stack := v.toList ++ rest }) target → Steps p.tables e below (T.setTop g) target) ∨
    (∃ (q : Addr) (vm₁ : Vm) (B : Pt), s.WarmedH vm₁ ∧ Stand p l e R s m args below meth c B.U B.locs B.cells B.slots ∧ PostX ⟨T.setVm vm₁, locs, cells, slots⟩ (Value.ref b :: argsL).toArray q B ∧
      Steps p.tables e below (T.setTop g) ((B.U.setTop { g with stack := rest }).pushFrame (.throwing q))) := by
  obtain ⟨mk, methM, hnamed, hmethM, hstM, habM⟩ := Cond.instanceMethod_spec hinst
  obtain ⟨methM', cM, hmethM', -, -, -, -, -, -, hsigM⟩ := Cond.code_spec hnamed hcode
  cases hmethM.symm.trans hmethM'
  obtain ⟨ps, dk, kp, hps, hdk, hkp, hsuper, -, -, hnid⟩ := Cond.superclass_spec hown hsup
  have hn : s.methodNamed? ⟨y.cls, x.name, x.desc⟩ = some mk := by rw [← hxy]; exact hnamed
  have hsub : s.vm.isSubclass ps mk.cls = true := hsubs _ _ hps (findClass_of_methodNamed hnamed)
  obtain ⟨vm₁, X₁, hstep₁⟩ := X.invokespecialUp hexec hown hlink hsame hn hmethM hstM habM hno hdk hnid hps hsuper hsub (a := b) (cell := cellB) hcell
    (fun z h => by rw [h] at hobj; cases hobj) hkB (g := g) hg (argsL := argsL) (rest := rest) (hlen _ hsigM) hstack hdg
  rcases hK m meth c ⟨T.setVm vm₁, locs, cells, slots⟩ { g with stack := rest } (.invokespecial index) mk (Value.ref b :: argsL).toArray X₁ hg hsize hdg hW (X₁.named hnamed) (hpre vm₁ X₁.warmed) with ⟨v, B, X', hpost, hsteps⟩ | ⟨q, B, X', hpost, hsteps⟩
  · exact Or.inl ⟨v, vm₁, B, X₁.warmed, X', hpost, fun target h => hstep₁ _ (by rw [doInvoke_state]; exact hsteps.trans h)⟩
  · exact Or.inr ⟨q, vm₁, B, X₁.warmed, X', hpost, hstep₁ _ (by rw [doInvoke_state]; exact hsteps)⟩
theorem zc_rSV (X : zc_Cx p l s m args meth c cc nL ret own D cA P G) (hH : zc_H D cA P h s H locs) {x y : MethodName} {bytes : ByteArray} {maxL d1 c1 s1 n idx : Nat} {ret' : Option FieldType} {As : List Value} {a t : Nat} {C : String} (ht : zt h a = t) (h0 : t ≠ 0) (h20 : t < 20) (hC : zc_nmT t = C)
    (hM : zc_M l y (ws_ y bytes maxL ret') d1 D cA P G (.ref a :: As) h c1 s1 QR XR) (hcode : Cond.code y bytes maxL ret' ∈ lw_all) (hlink : Cond.methodLink own idx x ∈ lw_all) (hsame : Cond.sameMethod x.cls y.cls x.name x.desc ∈ lw_all) (hxy : y = ⟨y.cls, x.name, x.desc⟩) (hsup : Cond.superclass own x.cls ∈ lw_all) {mid : String} (hs1 : Cond.superclass x.cls mid ∈ lw_all) (hs2 : Cond.superclass mid y.cls ∈ lw_all) (hinst : Cond.instanceMethod y ∈ lw_all) (hini : Cond.initialized y.cls ∈ lw_all)
    (hd : x.name ≠ "<init>" ∧ (parseMethodDescriptor y.desc).map (fun d => d.parameters.length) = some n) (hR : zc_rm R d1 maxL)
    (hn : As.length = n) (hsize : ls.size = nL) {st0 : List Value} (hst : st0 = As.reverse ++ .ref a :: rest) (hcat : (rest.map fun v => v.category).sum ≤ 8) (hdg : decode cc pc = .ok (.invokespecial idx, 3)) (hf : cells + c1 ≤ R.cells ∧ slots + s1 ≤ R.slots) :
    vx_Run p l e R s m args below meth c H locs cells slots c1 s1 (F0 m pc ls st0) rest (zc_Q D cA P QR (Value.ref a :: As).toArray) (zc_X D cA P XR) P := by
  have hG : GoodIn lw_all (ws_ y bytes maxL ret') := lw_meth hcode
  have hcw : Cond.code y bytes maxL ret' ∈ ws_ y bytes maxL ret' := List.mem_cons_self
  have hp := zc_preV X hH ht h0 hC (As := As)
  obtain ⟨cC, hfc, kB, hkB, -⟩ := zc_clsAt X hH ht h0 h20 hC
  have hts := X.2.2.2.2.1
  have hK : vx_Back l R p e below s args y 3 8 (PreOf R c1 s1 (zc_Pc D cA P G (.ref a :: As) h)) (PostOf (zc_Q D cA P QR) c1 s1 P) (vx_Post (zc_X D cA P XR) c1 s1 P) := vx_back (bytes := bytes) (maxL := maxL) (ret := ret') hM hp.1 rfl rfl (by show d1 + 8 + 1 ≤ R.frames; omega) (by show 8 + (maxL + 11) + (10240 + 40 * d1) ≤ R.locals; omega) (pay_in hts hG) hcw (fun a' U hW => word_at hW (Or.inl (by first | rfl | simp [Cond.onTables, Cond.keeps, Cond.steady])) (hts _ hini))
  obtain ⟨-, ⟨cellB, hcB, hoB, hclB⟩, hPc⟩ := hp
  cases hfc.symm.trans hclB
  have hsubs : ∀ ps cM, s.vm.findClass x.cls = some ps → s.vm.findClass y.cls = some cM → s.vm.isSubclass ps cM = true := by
    intro ps cM e1 e2
    obtain ⟨p1, k1, kp1, f1, g1, i1, j1, -⟩ := Cond.superclass_spec e1 (hts _ hs1)
    obtain ⟨p2, k2, kp2, f2, g2, i2, j2, -⟩ := Cond.superclass_spec f1 (hts _ hs2)
    cases e2.symm.trans f2
    by_cases hps : ps = cM
    · rw [hps]; unfold Vm.isSubclass Vm.isSubclassAux; simp
    · have hz : 2 ≤ s.vm.classes.size := by
        have a1 := (Array.getElem?_eq_some_iff.mp g1).1
        have a2 := (Array.getElem?_eq_some_iff.mp i2).1
        have a3 : @Ne Nat ps cM := hps
        omega
      obtain ⟨n9, hn9⟩ : ∃ n9, s.vm.classes.size + 1 = n9 + 1 + 1 + 1 := ⟨s.vm.classes.size - 2, by omega⟩
      unfold Vm.isSubclass
      rw [hn9]
      simp only [Vm.isSubclassAux, g1, j1, g2, j2]
      simp
  intro T hT X9
  rcases zc_callSV X9 X.1 (bytes := bytes) (maxL := maxL) (ret := ret') X.2.2.2.1 (hts _ hlink) (hts _ hsame) hxy (hts _ hsup) hsubs (hts _ hinst) (hts _ hcode) hd.1 hK (by rw [hT]; exact hcB) hoB hkB (g := F0 m pc ls st0) rfl (hsize.trans X.2.2.1.symm) (argsL := As) (rest := rest) (fun sig h => by
      have h2 := hd.2
      rw [h] at h2
      exact hn.trans (Option.some.inj h2).symm) hst (by show 2 * 0 + _ ≤ 8; omega) (by rw [X.2.1]; exact hdg)
    (fun vm₁ hW₁ => ⟨hf.1, hf.2, hPc (T.setVm vm₁) hT hW₁⟩) with ⟨v, vm₁, ⟨U', l2, c2, s2⟩, hW₁, X', ⟨g', mk, t, L, e1, e2, hq, h1, hL, h2, h3⟩, st⟩ | ⟨q, vm₁, ⟨U', l2, c2, s2⟩, hW₁, X', ⟨g', mk, t, L, E, ce, e1, e2, hq, hce, hcv, hcl, h1, hL, h2, h3⟩, st⟩
  · dsimp only [Pt.U, Pt.locs, Pt.cells, Pt.slots] at X' e1 e2 h1 h2 h3 st
    subst h1; subst h2; subst h3
    exact Or.inl ⟨v, (T.setVm vm₁).calling g' mk (Value.ref a :: As).toArray, t, U', L, hT, X', hL, e1, e2, hq, st⟩
  · dsimp only [Pt.U, Pt.locs, Pt.cells, Pt.slots] at X' e1 e2 h1 h2 h3 st hcl
    subst h1; subst h2; subst h3
    exact Or.inr ⟨q, (T.setVm vm₁).calling g' mk (Value.ref a :: As).toArray, t, U', L, E, ce, hT, X', hL, e1, e2, hq, hce, hcv, vx_cls hW₁ hcl, st⟩
theorem zc_back {T S : State} {R' : Room} {k n : Nat} {L : List Loc} (X : Stand p l e R s m args below meth c T locs cells slots) (Y : Stand p l e R' ((T.setVm s.vm).setFrames (.invoking m args :: below)) m args below meth c T [] 0 0) (Z : Stand p l e R' ((T.setVm s.vm).setFrames (.invoking m args :: below)) m args below meth c S L k n) :
    Stand p l e R s m args below meth c S (locs ++ L) (cells + k) (slots + n) := by
  have hW0 : s.WarmedH ((T.setVm s.vm).setFrames (.invoking m args :: below)).vm := State.WarmedH.refl s
  refine { admits := X.admits, cas := X.cas, clock := X.clock, frames := X.frames, room := X.room, hears := X.hears, method := X.method, code := X.code, here := Z.here, tail := Z.tail, warmed := State.WarmedH.trans hW0 Z.warmed, limits := Z.limits.trans (Y.limits.symm.trans X.limits), bytes := Z.bytes.trans (Y.bytes.symm.trans X.bytes), same := ?_ }
  obtain ⟨e1, e2⟩ := Z.same
  rw [State.setFrames_setFrames] at e1
  have h2 : (T.setVm s.vm).sameButNew (S.setVm s.vm) L k n := ⟨e1, e2⟩
  exact X.same.trans h2
/-- the call of Exception's constructor on an object under way -/
theorem zx_excI (X : zc_Cx p l s m args meth c cc nL ret own D cA P G) (hH : zc_H D cA P h s H locs) (hB : cells + cr ≤ R.cells ∧ slots + sr ≤ R.slots) (hsz : ls.size = nL) {a : Nat} (ht : zt h a = 6) (h401 : zr h 401 a = none) (hown : own = "ChurchyardBook$Refused") (hR : 8 ≤ R.frames ∧ 10240 ≤ R.locals) (hcat : (rest.map fun v => v.category).sum ≤ 8) (hdg : decode cc pc = .ok (.invokespecial 1, 3))
    (kk : ∀ (H1 : Heap) (locs1 : List Loc), zc_H D cA P h s H1 locs1 → W p l e R s m args below meth c H1 locs1 cells slots Q (F0 m (pc + 3) ls rest)) : W p l e R s m args below meth c H locs cells slots Q (F0 m pc ls (.ref a :: rest)) := by
  subst hown
  intro T hT X9
  subst hT
  have hts := X.2.2.2.2.1
  have hown := X.2.2.2.1
  have hexec := X.1
  have htr : e.platform.stackTraces = false := (show e.platform.stackTraces = l.stackTraces by rw [X9.admits.platform]).trans X.2.2.2.2.2.2.2.1
  obtain ⟨hat, hPa⟩ := hH.1 a (by omega)
  have hPa : P a := hPa.elim id (fun h => by omega)
  rcases hat with ⟨ci, r, g1, g2, ⟨cell, g3, g4, g5, g6⟩, gm⟩ | ⟨k, g0, g1, g2⟩
  rotate_left
  · omega
  obtain rfl : ci = 5 := by omega
  cases (g2 : some ((RX7, zTR, 2) : vw_C) = some r)
  obtain ⟨gm1, gm2⟩ := gm cell g3
  have gm2 := gm2 rfl
  have Y := vx_rebase X9 (R' := { frames := R.frames, locals := R.locals, cells := 0, slots := 0 }) (Nat.le_refl _) (Nat.le_refl _) (by show cells + 0 ≤ R.cells; omega) (by show slots + 0 ≤ R.slots; omega)
  obtain ⟨s', hA'⟩ : ∃ z, z = (T.setVm s.vm).setFrames (.invoking m args :: below) := ⟨_, rfl⟩
  rw [← hA'] at Y
  have hvm : s'.vm = s.vm := by rw [hA']; rfl
  have hhp : s'.heap = T.heap := by rw [hA']; rfl
  have hW0 : s.WarmedH s'.vm := by rw [hvm]; exact State.WarmedH.refl s
  have hat' : ∀ w ∈ zc_wR0.filter vx_no, w.before args s' = true := fun w hw => vx_ot_at hW0 hvm.symm (zc_got zc_sR w hw) (zc_KA X zc_sR w hw)
  have hU' : vx_Zq Bundle.tN "UNASSIGNED_STACK" Bundle.steD P s' s'.heap := by rw [hhp]; exact vx_Zq.moved hW0.alike (X.2.2.2.2.2.2.2.2.2.2.2.2.2.2.2.2.2.2.2.1.kept hH.2.2.1)
  have hN' : vx_Zq Bundle.tN "SUPPRESSED_SENTINEL" Bundle.listD P s' s'.heap := by rw [hhp]; exact vx_Zq.moved hW0.alike (X.2.2.2.2.2.2.2.2.2.2.2.2.2.2.2.2.2.2.2.2.1.kept hH.2.2.1)
  have hw : ∀ w ∈ zc_wR0, w.before args s' = true := vx_own hat' (vx_isRefq hU'.1) (vx_isRefq hN'.1) hU'.2.word hN'.2.word
  have hw' : ∀ x, x ∈ zc_wR0 → x.holds args s' none s' [] = true := fun x hx => hw x hx
  have hown' : s'.vm.findClass "ChurchyardBook$Refused" = some m.cls := by rw [hvm]; exact hown
  obtain ⟨hSl, hfc0, kX, hkX0, hord⟩ := X.2.2.2.2.2.2.2.2.1.1 5 _ (rfl : zc_cl[5]? = some ((RX7, zTR, 2) : vw_C))
  have hcm : D.1 5 = m.cls := Option.some.inj (hfc0.symm.trans hown)
  have hfound : s'.vm.findClass "ChurchyardBook$Refused" = some (D.1 5) := by rw [hcm]; exact hown'
  have hk : s'.vm.classes[D.1 5]? = some kX := by rw [hvm]; exact hkX0
  obtain ⟨cI, kI, i1, i2, -, -, -, hn7⟩ := Cond.instantiable_spec (hw' (.instantiable "ChurchyardBook$Refused" 7) (by simp [zc_wR0]))
  cases Option.some.inj (i1.symm.trans hfound)
  cases Option.some.inj (i2.symm.trans hk)
  have howns : e.platform.frameOwnsMonitors = true := by rw [X9.admits.platform]
  have hfin : e.platform.finalization = false := by rw [X9.admits.platform]
  have hpl : e.platform.magicAccessors = ({} : Platform).magicAccessors := by rw [X9.admits.platform]
  obtain ⟨T9, Z, L, LZ, Y9⟩ := ThrowableC.of_atoms (args := args) howns hfin hpl (fun x hx => hw x (by simp [zc_wR0, hx]))
  obtain ⟨P1, Ps, hlen, L1, hL, hP1m, hlink1, hlink⟩ := Bundle.chain0 (args := args) hpl Y9.init0 [] "java/lang/Exception" (by decide +kernel) (fun _ h => nomatch h) (fun x hx => hw x (by simp only [zc_wR0, List.mem_append]; exact Or.inr (Or.inl hx)))
  have hsel0 : selectMethod e.platform s'.vm cell.cls T9.fill0 = .method T9.fill0 := by
    obtain ⟨c2, r2, m2, q1, q2, q3, q4, -⟩ := Cond.selects_spec (hw' (.selects "ChurchyardBook$Refused" Bundle.tFill0 Bundle.tFill0) (by simp [zc_wR0]))
    cases Option.some.inj (q1.symm.trans hfound)
    cases Option.some.inj (q2.symm.trans (State.methodFound?_of_named Y9.fill0 (by decide)))
    cases Option.some.inj (q3.symm.trans Y9.fill0)
    rw [g4, Launch.admits_selectMethod X9.admits]; exact q4
  have hselF : selectMethod e.platform s'.vm cell.cls T9.fill = .method T9.fill := by
    obtain ⟨c2, r2, m2, q1, q2, q3, q4, -⟩ := Cond.selects_spec (hw' (.selects "ChurchyardBook$Refused" Bundle.tFill Bundle.tFill) (by simp [zc_wR0]))
    cases Option.some.inj (q1.symm.trans hfound)
    cases Option.some.inj (q2.symm.trans (State.methodFound?_of_named Y9.fill (by decide)))
    cases Option.some.inj (q3.symm.trans Y9.fill)
    rw [g4, Launch.admits_selectMethod X9.admits]; exact q4
  obtain ⟨cellS0, hcS0, hiss⟩ := Y9.statics
  obtain ⟨u0, hu0⟩ := Cond.staticRefV Y9.unassigned L.unassignedStatic L.statics hcS0 hiss (hw' (.isRef (.static Bundle.tN "UNASSIGNED_STACK" Bundle.steD)) (by simp [zc_wR0]))
  obtain ⟨sen, hsen⟩ := Cond.staticRefV Y9.sentinel L.sentinelStatic L.statics hcS0 hiss (hw' (.isRef (.static Bundle.tN "SUPPRESSED_SENTINEL" Bundle.listD)) (by simp [zc_wR0]))
  obtain ⟨ci198, i198, fB, hk198, hg198, ha198, hsB, -, hnB, htB, hffB⟩ := Cond.ownField (t := .object "java/lang/Object") Y9.found L.cls (by decide +kernel) (hw' (.fieldLink Bundle.tN 198 Bundle.tN "backtrace" "Ljava/lang/Object;") (by simp [zc_wR0])) (hw' (.lays Bundle.tN Bundle.tN "backtrace" "Ljava/lang/Object;") (by simp [zc_wR0])) e.platform hpl
  have hcellS : T.heap[T9.aS]? = some cellS0 := by rw [← hhp]; exact hcS0
  have hknownS : cellS0.vm ≠ .unknown := by
    intro hu
    rw [hu] at hiss
    cases hiss
  have hneS : T9.aS ≠ a := by
    intro he
    rw [he, g3] at hcellS
    cases hcellS
    rw [g5] at hiss
    cases hiss
  obtain ⟨tyC, dC, hdC, hdnC⟩ := Cond.laysAt hfound hk Y9.cause (hw' (.lays "ChurchyardBook$Refused" Bundle.tN "cause" "Ljava/lang/Throwable;") (by simp [zc_wR0]))
  obtain ⟨tyS, dS, hdS, hdnS⟩ := Cond.laysAt hfound hk Y9.stack (hw' (.lays "ChurchyardBook$Refused" Bundle.tN "stackTrace" Bundle.steD) (by simp [zc_wR0]))
  obtain ⟨tyP, dP, hdP, hdnP⟩ := Cond.laysAt hfound hk Y9.supp (hw' (.lays "ChurchyardBook$Refused" Bundle.tN "suppressedExceptions" Bundle.listD) (by simp [zc_wR0]))
  obtain ⟨tyB, dB, hdB, hdnB⟩ := Cond.laysAt hfound hk hffB (hw' (.lays "ChurchyardBook$Refused" Bundle.tN "backtrace" "Ljava/lang/Object;") (by simp [zc_wR0]))
  obtain ⟨c6, k6, c7, k7, i7, fA, e6, e7, hffA, -, -, -, -, tyA, dA, hdA, -, hdnA, -⟩ := Cond.laysFinal_spec (hw' (.laysFinal "ChurchyardBook$Refused" "ChurchyardBook$Refused" "answer" "I") (by simp [zc_wR0]))
  cases Option.some.inj (e6.symm.trans hfound)
  cases Option.some.inj (e7.symm.trans hk)
  have hff : ∀ x y z, s'.fieldFound? x y z = s.fieldFound? x y z := by
    intro x y z
    unfold State.fieldFound?
    rw [hvm]
  obtain ⟨cf0, kf0, fi0, fd0, hi0, hs0⟩ := hSl 0 (by decide)
  obtain ⟨cf1, kf1, fi1, fd1, hi1, hs1⟩ := hSl 1 (by decide)
  have hi0 : s.fieldFound? "ChurchyardBook$Refused" "answer" "I" = some (cf0, kf0, fi0, fd0) := hi0
  have hi1 : s.fieldFound? "java/lang/Throwable" "backtrace" "Ljava/lang/Object;" = some (cf1, kf1, fi1, fd1) := hi1
  have hffB' : s.fieldFound? "java/lang/Throwable" "backtrace" "Ljava/lang/Object;" = some (_, _, _, fB) := (hff _ _ _).symm.trans hffB
  have hffA' := (hff _ _ _).symm.trans hffA
  have eA : fd0 = fA := by
    have h9 := Option.some.inj (hi0.symm.trans hffA')
    simp only [Prod.mk.injEq] at h9
    exact h9.2.2.2
  have eB : fd1 = fB := by
    have h9 := Option.some.inj (hi1.symm.trans hffB')
    simp only [Prod.mk.injEq] at h9
    exact h9.2.2.2
  subst eA; subst eB
  have nA : fd0.name = "answer" := (State.fieldFound?_type hi0 (t := .int) (by decide +kernel)).1
  have bC := Cond.laysApart hdB hdC hdnB hdnC (by rw [hnB, Y9.causeName]; decide)
  have bS := Cond.laysApart hdB hdS hdnB hdnS (by rw [hnB, Y9.stackName]; decide)
  have bP := Cond.laysApart hdB hdP hdnB hdnP (by rw [hnB, Y9.suppName]; decide)
  have aC := Cond.laysApart hdA hdC hdnA hdnC (by rw [nA, Y9.causeName]; decide)
  have aS := Cond.laysApart hdA hdS hdnA hdnS (by rw [nA, Y9.stackName]; decide)
  have aP := Cond.laysApart hdA hdP hdnA hdnP (by rw [nA, Y9.suppName]; decide)
  have v0 : cell.slots[fd0.slot]? = some (zc_val h 400 a) := by rw [hs0]; exact g6 0 (by decide)
  have v1 : cell.slots[fd1.slot]? = some .null := by
    have h9 := g6 1 (by decide)
    rw [hs1, h9]
    show some (va_rf (zr h 401 a)) = some .null
    rw [h401]; rfl
  have hskip : SkipFacts T9 e.platform s' (fun u => u) u0 ((preparedCellV T9.toThrowableT cell a u0 sen).withEntry T.cur) :=
    ⟨{ ci198 := ci198, i198 := i198, fBack := fd1 }, ⟨hk198, hg198, ha198, hsB⟩, by
      simpa [preparedCellV, Cell.setSlot, Cell.withEntry, Array.getElem?_setIfInBounds, bC, bS, bP, bC.symm, bS.symm, bP.symm] using v1, fun _ _ => rfl⟩
  have tk : ∀ {f : Field} {v : Value}, kX.instanceTypes[f.slot]? = some f.type → fits f.type v = true → Takes s' cell f v := by
    intro f v h1 h2
    have h3 := (Takes.of_laid hk hord h1 h2).2
    refine ⟨?_, ?_⟩
    · rw [gm2, ← hn7]; exact (Array.getElem?_eq_some_iff.mp h1).1
    · rw [g4, g5]; exact h3
  obtain ⟨tm, methC, cdC, kC, vm₁, hnC, -, -, -, -, -, -, -, hW₁, st1⟩ := Steps.initCold (tb := p.tables) (e := e) (below := below) (s := s') (U := T) Y.here hexec Y.warmed hpl hown' (t := Bundle.init0 "java/lang/Exception") rfl rfl (Bundle.fit_spec (by decide +kernel)).2
    (hw' (.methodLink "ChurchyardBook$Refused" 1 (Bundle.init0 "java/lang/Exception")) (by simp [zc_wR0])) (hw (.instanceMethod (Bundle.init0 "java/lang/Exception")) (by simp [zc_wR0, Bundle.chain0Atoms, Bundle.passAtoms])) (bytes := Bundle.five) (maxL := 1) (hw (.code (Bundle.init0 "java/lang/Exception") Bundle.five 1 none) (by simp [zc_wR0, Bundle.chain0Atoms, Bundle.passAtoms]))
    (f := F0 m pc ls (.ref a :: rest)) rfl (a := a) (rest := rest) rfl (by rw [X.2.1]; exact hdg)
  cases Option.some.inj (hnC.symm.trans hP1m)
  have X₁ := Y.noted hW₁
  have hPs : Ps.length = 0 := hlen
  obtain ⟨vm₂, X₂, st2⟩ := X₁.ctorPlainOffV hexec (g := F0 m pc ls rest) rfl (hsz.trans X.2.2.1.symm) T9 L Z LZ (P1 :: Ps)
    (fun P hP => by rcases List.mem_cons.mp hP with rfl | hP; exact L1; exact hL P hP) ⟨hlink1, hlink⟩ (u0 := u0) (sen := sen) (self := a) (cell := cell) (cellS := cellS0)
    g3 (fun z hz => by rw [g5] at hz; cases hz) (by rw [g5]; exact fun hz => by cases hz) (by rw [gm1]) (by rw [gm1]) hsel0 hselF hcellS hneS hknownS hu0 hsen
    (tk tyC (by rw [Y9.causeType]; rfl)) (tk tyS (by rw [Y9.stackType]; exact fits_refV_array _ u0)) (tk tyP (by rw [Y9.suppType]; exact fits_refV_object _ sen)) Y9.objLocals hskip htr [] (by rw [X.2.1]; exact hdg)
    (by show (P1 :: Ps).length + 2 < R.frames; simp only [List.length_cons, hPs]; omega) (by show 2 * 0 + (rest.map fun v => v.category).sum + (13 * (P1 :: Ps).length + 41) ≤ R.locals; simp only [List.length_cons, hPs]; omega)
  have hlt : a < ((T.setVm vm₁).setVm vm₂).heap.size := (Array.getElem?_eq_some_iff.mp g3).1
  generalize hce : (preparedCellV T9.toThrowableT cell a u0 sen).setSlot T9.fStack.slot u0.v = ce at X₂ st2
  have c1 : ce.cls = D.1 5 := by rw [← hce]; exact g4
  have c2 : ce.vm = .none := by rw [← hce]; exact g5
  have c3 : ce.monitor = {} := by rw [← hce]; exact gm1
  have c4 : ce.slots.size = 7 := by rw [← hce]; simp [preparedCellV, Cell.setSlot, gm2]
  have c5 : ce.slots[D.2 5 0]? = some (zc_val h 400 a) := by
    rw [← hs0, ← hce]
    simpa [preparedCellV, Cell.setSlot, Array.getElem?_setIfInBounds, aC, aS, aP, aC.symm, aS.symm, aP.symm] using v0
  have c6 : ce.slots[D.2 5 1]? = some (zc_val h 401 a) := by
    have h9 : zc_val h 401 a = .null := by show va_rf (zr h 401 a) = .null; rw [h401]; rfl
    rw [h9, ← hs1, ← hce]
    simpa [preparedCellV, Cell.setSlot, Array.getElem?_setIfInBounds, bC, bS, bP, bC.symm, bS.symm, bP.symm] using v1
  have hself : (((T.setVm vm₁).setVm vm₂).setCell a ce).heap[a]? = some ce := heapAt_setCell_self _ hlt
  have hne : ∀ q, q ≠ a → (((T.setVm vm₁).setVm vm₂).setCell a ce).heap[q]? = T.heap[q]? := fun q hq => heapAt_setCell_ne _ (Ne.symm hq)
  have hsize : (((T.setVm vm₁).setVm vm₂).setCell a ce).heap.size = T.heap.size := size_setCell ..
  subst hA'
  have X5 := zc_back X9 Y X₂
  have hH1 : zc_H D cA P h s (((T.setVm vm₁).setVm vm₂).setCell a ce).heap (locs ++ ([] ++ [⟨a, T9.fCause.slot⟩, ⟨a, T9.fStack.slot⟩, ⟨a, T9.fSupp.slot⟩, ⟨a, T9.fStack.slot⟩])) := by
    refine ⟨fun b hb => ?_, ?_⟩
    · by_cases hba : b = a
      · subst hba
        refine ⟨Or.inl ⟨5, (RX7, zTR, 2), ht, rfl, ⟨ce, hself, c1, c2, fun k hk => ?_⟩, fun c9 hc9 => ?_⟩, Or.inl hPa⟩
        · have hk2 : k < 2 := hk
          rcases (show k = 0 ∨ k = 1 by omega) with rfl | rfl
          · exact c5
          · exact c6
        · cases hself.symm.trans hc9
          exact ⟨c3, fun _ => c4⟩
      · exact ⟨(hH.1 b hb).1.kept (hne b hba), (hH.1 b hb).2⟩
    · refine ⟨by rw [hsize]; exact hH.2.1, fun q h1 h2 => (hne q (fun he => h2 (he ▸ hPa))).trans (hH.2.2.1 q h1 h2), fun z hz => ?_⟩
      rcases List.mem_append.mp hz with hz | hz
      · exact hH.2.2.2 z hz
      · have : z.base = a := by
          simp only [List.nil_append, List.mem_cons, List.not_mem_nil, or_false] at hz
          rcases hz with rfl | rfl | rfl | rfl <;> rfl
        rw [this]; exact hPa
  obtain ⟨t, a1, b1⟩ := kk _ _ hH1 (((T.setVm vm₁).setVm vm₂).setCell a ce) rfl X5
  exact ⟨t, st1 _ (fun acts => by rw [doInvoke_state]; exact st2 _ a1), b1⟩
end Z7
section Z8
variable {l : Launch} {D : va_G} {cA : Nat → ClassId} {P : Nat → Prop} {G : Nat × Nat × Nat} {h : ZH}
theorem vx_ofWF {y : MethodName} {ws ws' : List Cond} {rm : Room} {Pc : Array Value → State → Prop} {Qc : Array Value → State → Outcome → State → Prop} {XC : String → Nat → State → State → Prop} {mc ms : Nat} {free : Addr → Prop} {cc : ByteArray} {maxL : Nat} {ret : Option FieldType}
    (hy : plainFor y = true) (hw : ws = Cond.code y cc maxL ret :: ws')
    (body : ∀ p e s m args below meth c s₁, BodyLoose p l y (headSpec ws rm) cc maxL ret e s m args below meth c s₁ → c.maxLocals = maxL → (∀ x ∈ c.exceptionTable.toList, False) → Pc args s →
      W p l e (headSpec ws rm).room s m args below meth c s.heap [] 0 0 (vx_MQ below Qc XC args s mc ms free) (entryFrame m args maxL)) : vx_Met l y ws rm Pc Qc XC mc ms free := by
  refine MetFree.of_bodySF (code := cc) (maxLocals := maxL) (ret := ret) hy ?_ ?_
  · intro args s m h hn
    obtain ⟨meth, c, h1, h2, h3, h4, h5, h6, -, -⟩ := Cond.code_spec hn (atoms_spec (ws := ws) h _ (by rw [hw]; exact List.mem_cons_self))
    exact ⟨meth, c, h1, h2, h3, h4, h5, h6⟩
  · intro p e s m args below meth c s₁ B hml hP _
    have hh0 : s₁.heap = s.heap := by rw [B.state]; rfl
    have ht : ∀ x ∈ c.exceptionTable.toList, False := by
      obtain ⟨meth9, c9, h1, h2, -, -, -, -, h7, -⟩ := Cond.code_spec B.named (atoms_spec (ws := ws) B.pre _ (by rw [hw]; exact List.mem_cons_self))
      cases Option.some.inj (h1.symm.trans B.method)
      cases Option.some.inj (h2.symm.trans (Stand.of_body B).code)
      intro x hx
      rw [Array.isEmpty_iff.mp h7] at hx
      cases hx
    obtain ⟨t, a1, o, b1, b2, b3⟩ := body p e s m args below meth c s₁ B hml ht hP s₁ hh0 (Stand.of_body B)
    exact ⟨t, o, a1, b1, b2, b3⟩
theorem zc_ofF {y : MethodName} {cc : ByteArray} {nL d C S : Nat} {ret : Option FieldType} {own : String} {As : List Value} {QR : Option Value → ZH → Prop} {XR : String → Nat → ZH → Prop} (hl : l.stackTraces = false) (hy : y.cls = own) (hpl : plainFor y = true) (hnl : (lg_sl As).length ≤ nL)
    (body : ∀ (p : Program) (e : Env) (s : State) (m : MethodId) (args : Array Value) (below : List Frame) (meth : Method) (c : Code) (H : Heap) (locs : List Loc) (ls : Array Slot), zc_Cx p l s m args meth c cc nL ret own D cA P G → meth.name = y.name → c.exceptionTable.toList = tableOf [] → zc_H D cA P h s H locs → lv_has ls nL (lv_args 0 As) → W p l e (zc_Ro d C S) s m args below meth c H locs 0 0 (vx_MQ below (zc_Q D cA P QR) (zc_X D cA P XR) args s C S P) (F0 m 0 ls [])) :
    zc_M l y (ws_ y cc nL ret) d D cA P G As h C S QR XR := by
  refine vx_ofWF (cc := cc) (maxL := nL) (ret := ret) hpl rfl ?_
  intro p e s m args below meth c s₁ B hml hno hv
  obtain ⟨rfl, hP, hK⟩ := hv
  have hts := atoms_spec (ws := ws_ y cc nL ret) B.pre
  have hts : ∀ w ∈ lw_all, w.before _ s = true := fun w h => hts w (List.mem_cons_of_mem _ h)
  have hown : s.vm.findClass own = some m.cls := hy ▸ findClass_of_methodNamed B.named
  have hlv := lv_entry As (n := nL) hnl
  rw [lg_entry_eq]
  exact body p e s m _ below meth c s.heap [] _ ⟨B.exec, B.bytes, hml, hown, hts, B.returns, B.notSynchronized, hl, hK⟩ (name_of_methodNamed B.named B.method).1 (List.eq_nil_iff_forall_not_mem.mpr fun x hx => hno x hx) ⟨hP, va_S.rf⟩ hlv
end Z8
section Z9
variable {p : Program} {l : Launch} {e : Env} {R : Room} {s : State} {m : MethodId} {args : Array Value} {below : List Frame} {meth : Method} {c : Code} {H : Heap} {T : State} {locs : List Loc} {cells slots : Nat} {Q : State → Prop}
variable {cc : ByteArray} {nL pc : Nat} {ret : Option FieldType} {own : String} {ls : Array Slot} {rest : List Value} {D : va_G} {cA : Nat → ClassId} {P : Nat → Prop} {G : Nat × Nat × Nat} {h : ZH} {cr sr : Nat}
variable {QR : Option Value → ZH → Prop} {XR : String → Nat → ZH → Prop}
/-- a static call by a subclass's name: the step into the method -/
theorem zc_statStep (X : Stand p l e R s m args below meth c T locs cells slots) (hexec : p.tables.exec = Jvm.exec) {owner : String} {index : Nat} {x : MethodName} (hown : s.vm.findClass own = some m.cls) (hlink : (Cond.methodLink own index x).before args s = true)
    (hsame : (Cond.sameMethod x.cls owner x.name x.desc).before args s = true) {t : MethodId} {tm : Method} {tk : Class} (hn : s.methodNamed? ⟨owner, x.name, x.desc⟩ = some t) (htm : s.vm.method? t = some tm) (hst : tm.isStatic = true) (htk : s.vm.classes[t.cls]? = some tk) (hini : tk.init = .initialized) (hpo : signaturePolymorphic tk tm = false)
    {As : List Value} (hlen : As.length = tm.sig.parameters.length) (hdg : decode c.code pc = .ok (.invokestatic index, 3)) :
    ∃ vm', Stand p l e R s m args below meth c (T.setVm vm') locs cells slots ∧
      ∀ target, (∀ acts, Steps p.tables e below (doInvoke e ((T.setVm vm').setTop (F0 m pc ls rest)) acts t As.toArray).1 target) → Steps p.tables e below (T.setTop (F0 m pc ls (As.reverse ++ rest))) target := by
  have hpl : e.platform.magicAccessors = ({} : Platform).magicAccessors := by rw [X.admits.platform]
  have hpv : e.platform.polymorphicOnlyByInvokevirtual = true := by rw [X.admits.platform]
  obtain ⟨cn, ck, t1, hcn, hck, hni, hf, hn1⟩ := Cond.sameMethod_found hsame
  cases hn.symm.trans hn1
  obtain ⟨ci, hlk, hright⟩ := Cond.methodLink_specUp hown hcn hck hni hf hlink e.platform hpl (by rw [X.admits.platform])
  have hE := State.methodEntryUp (e := e) X.warmed hlk hright
  obtain ⟨dk, cf, nt, mn, md, ck1, -, -, hd, hcf, hcp, hnt, -, -, hck1, -, hno, -⟩ := hlk.here
  cases hck.symm.trans hck1
  obtain ⟨hgc, hrc, hW1, hgm⟩ := hE.classFirst
  have al := hE.warmed.alike
  have hcp2 : cf.constantPool[index]? = some (if false then .interfaceMethodref ci nt else .methodref ci nt) := hcp
  obtain ⟨d0, hd0, ed0⟩ := X.warmed.alike.2.2 _ _ hd
  obtain ⟨d2, hd2, ed2⟩ := al.2.2 _ _ hd
  obtain ⟨c1, hc1, ec1⟩ := hW1.alike.2.2 _ _ hck
  obtain ⟨c2, hc2, ec2⟩ := al.2.2 _ _ hck
  obtain ⟨k2, hk2, ek2⟩ := al.2.2 _ _ htk
  have n0 : (ck.methods.any fun y => y.name == mn && !y.isStatic && signaturePolymorphic ck y) = false := by simp [hno]
  have n1 : (c1.methods.any fun y => y.name == mn && !y.isStatic && signaturePolymorphic c1 y) = false := by rw [ec1]; exact n0
  have n2 : (c2.methods.any fun y => y.name == mn && !y.isStatic && signaturePolymorphic c2 y) = false := by rw [ec2]; exact n0
  have r0 := memberRef_ask_via (e := e) hd0 (by rw [ed0]; exact hcf) hcp2 hnt
  have r2 := memberRef_ask_via (e := e) hd2 (by rw [ed2]; exact hcf) hcp2 hnt
  refine ⟨T.vm.calledUp m.cls ci index cn t, X.noted hE.warmed, fun target hrest => ?_⟩
  have top := X.here.top
  have wp1 : ∀ (Q : Unit → Pre) (E : CtlPost) (d : Bool) (acts : List Action), Sem.wp (Op.invokestatic.sem index) Q E e d acts (T.setTop (F0 m pc ls (As.reverse ++ rest))) ↔ Sem.wp (Op.invokestatic.sem index) Q E e d acts ((T.setVm (T.vm.calledUp m.cls ci index cn t)).setTop (F0 m pc ls (As.reverse ++ rest))) := by
    intro Q E d acts
    have top1 : (T.setVm (T.vm.noted m.cls ci (.cls cn))).topJava?.isSome := top
    have top2 : (T.setVm (T.vm.calledUp m.cls ci index cn t)).topJava?.isSome := top
    have m0 := State.method?_setTop (F0 m pc ls (As.reverse ++ rest)) top
    have m1 := State.method?_setTop (F0 m pc ls (As.reverse ++ rest)) top1
    have m2 := State.method?_setTop (F0 m pc ls (As.reverse ++ rest)) top2
    have a1 : ∀ {Q' : ClassId → Pre} {d' : Bool} {acts' : List Action}, Sem.wp (Jvm.resolveClassAt ci) Q' E e d' acts' (T.setTop (F0 m pc ls (As.reverse ++ rest))) ↔ Q' cn d' acts' ((T.setVm (T.vm.noted m.cls ci (.cls cn))).setTop (F0 m pc ls (As.reverse ++ rest))) := W.resolveClassAt_links (t := T.setTop (F0 m pc ls (As.reverse ++ rest))) m0 hgc
    have a2 : ∀ {Q' : MethodId → Pre} {d' : Bool} {acts' : List Action}, Sem.wp (Jvm.resolveMethodAt index) Q' E e d' acts' ((T.setVm (T.vm.noted m.cls ci (.cls cn))).setTop (F0 m pc ls (As.reverse ++ rest))) ↔ Q' t d' acts' ((T.setVm (T.vm.calledUp m.cls ci index cn t)).setTop (F0 m pc ls (As.reverse ++ rest))) := W.resolveMethodAt_links (t := (T.setVm (T.vm.noted m.cls ci (.cls cn))).setTop (F0 m pc ls (As.reverse ++ rest))) m1 hgm
    simp [Op.invokestatic.sem, hpv, Seam.memberRefOf, m0, m2, r0, r2, a1, a2, W.resolveClassAt_ready (s := (T.setVm (T.vm.calledUp m.cls ci index cn t)).setTop (F0 m pc ls (As.reverse ++ rest))) m2 hE.classReady, W.resolveMethodAt_ready (s := (T.setVm (T.vm.calledUp m.cls ci index cn t)).setTop (F0 m pc ls (As.reverse ++ rest))) m2 hE.ready, hc1, hc2, n1, n2, -Array.any_eq_true]
  jvm_step X.here [hexec, hdg, wp1, Op.invokestatic.wp_ready (e := e) (s := T.setVm (T.vm.calledUp m.cls ci index cn t)) (k := k2) (meth := tm) (m := t) (args := As) (rest := rest) (f := F0 m pc ls (As.reverse ++ rest)) top ⟨ci, mn, md, false, cn, c2, r2, hE.classReady, hc2, n2⟩ hE.ready hk2 (by show (T.vm.calledUp m.cls ci index cn t).method? t = some tm; rw [al.method?]; exact htm) (by rw [ek2]; exact hpo) hst (by rw [ek2]; exact hini) hlen rfl]
  exact fun acts => hrest _
theorem zc_rSI (X : zc_Cx p l s m args meth c cc nL ret own D cA P G) (hH : zc_H D cA P h s H locs) {x y : MethodName} {bytes : ByteArray} {maxL d1 c1 s1 n idx : Nat} {ret' : Option FieldType} {As : List Value}
    (hM : zc_M l y (ws_ y bytes maxL ret') d1 D cA P G As h c1 s1 QR XR) (hcode : Cond.code y bytes maxL ret' ∈ lw_all) (hlink : Cond.methodLink own idx x ∈ lw_all) (hsame : Cond.sameMethod x.cls y.cls x.name x.desc ∈ lw_all) (hxy : y = ⟨y.cls, x.name, x.desc⟩) (hstat : Cond.static y ∈ lw_all) (hini : Cond.initialized y.cls ∈ lw_all)
    (hd : (y.cls ≠ "java/lang/invoke/MethodHandle" ∧ y.cls ≠ "java/lang/invoke/VarHandle") ∧ (parseMethodDescriptor y.desc).map (fun d => d.parameters.length) = some n) (hR : zc_rm R d1 maxL)
    (hn : As.length = n) (hsize : ls.size = nL) {st0 : List Value} (hst : st0 = As.reverse ++ rest) (hcat : (rest.map fun v => v.category).sum ≤ 8) (hdg : decode cc pc = .ok (.invokestatic idx, 3)) (hf : cells + c1 ≤ R.cells ∧ slots + s1 ≤ R.slots) :
    vx_Run p l e R s m args below meth c H locs cells slots c1 s1 (F0 m pc ls st0) rest (zc_Q D cA P QR As.toArray) (zc_X D cA P XR) P := by
  subst hst
  have hG : GoodIn lw_all (ws_ y bytes maxL ret') := lw_meth hcode
  have hcw : Cond.code y bytes maxL ret' ∈ ws_ y bytes maxL ret' := List.mem_cons_self
  have hp := zc_preS X hH (As := As)
  have hts := X.2.2.2.2.1
  have hK : vx_Back l R p e below s args y 3 8 (PreOf R c1 s1 (zc_Pc D cA P G As h)) (PostOf (zc_Q D cA P QR) c1 s1 P) (vx_Post (zc_X D cA P XR) c1 s1 P) := vx_back (bytes := bytes) (maxL := maxL) (ret := ret') hM hp.1 rfl rfl (by show d1 + 8 + 1 ≤ R.frames; omega) (by show 8 + (maxL + 11) + (10240 + 40 * d1) ≤ R.locals; omega) (pay_in hts hG) hcw (fun a' U hW => word_at hW (Or.inl (by first | rfl | simp [Cond.onTables, Cond.keeps, Cond.steady])) (hts _ hini))
  have hcode1 := hts _ hcode
  obtain ⟨mk, hnamed⟩ := Cond.code_named hcode1
  obtain ⟨methM, cM, hmethM, -, -, -, -, -, -, hsigM⟩ := Cond.code_spec hnamed hcode1
  have hstatic : methM.isStatic = true := Cond.static_spec hnamed hmethM (hts _ hstat)
  obtain ⟨kP, hkP, hnP⟩ := className_of_methodNamed hnamed
  have hinitP : kP.init = .initialized := Cond.initialized_spec (findClass_of_methodNamed hnamed) hkP (hts _ hini)
  have hnopoly : signaturePolymorphic kP methM = false := by simp [signaturePolymorphic, hnP, hd.1.1, hd.1.2]
  have hlen : As.length = methM.sig.parameters.length := by
    have h2 := hd.2
    rw [hsigM] at h2
    exact hn.trans (Option.some.inj h2).symm
  intro T hT X9
  obtain ⟨vm₁, X₁, hstep₁⟩ := zc_statStep X9 X.1 (rest := rest) (ls := ls) (pc := pc) X.2.2.2.1 (hts _ hlink) (hts _ hsame) (by rw [← hxy]; exact hnamed) hmethM hstatic hkP hinitP hnopoly hlen (by rw [X.2.1]; exact hdg)
  rcases hK m meth c ⟨T.setVm vm₁, locs, cells, slots⟩ (F0 m pc ls rest) (.invokestatic idx) mk As.toArray X₁ rfl (hsize.trans X.2.2.1.symm) (by rw [X.2.1]; exact hdg) (by show 2 * 0 + (rest.map fun v => v.category).sum ≤ 8; omega) (X₁.named hnamed) ⟨hf.1, hf.2, hp.2 (T.setVm vm₁) hT X₁.warmed⟩ with ⟨v, ⟨U', l2, c2, s2⟩, X', ⟨g', mk9, t, L, e1, e2, hq, h1, hL, h2, h3⟩, hsteps⟩ | ⟨q, ⟨U', l2, c2, s2⟩, X', ⟨g', mk9, t, L, E, ce, e1, e2, hq, hce, hcv, hcl, h1, hL, h2, h3⟩, hsteps⟩
  · dsimp only [Pt.U, Pt.locs, Pt.cells, Pt.slots] at X' e1 e2 h1 h2 h3 hsteps
    subst h1; subst h2; subst h3
    exact Or.inl ⟨v, (T.setVm vm₁).calling g' mk9 As.toArray, t, U', L, hT, X', hL, e1, e2, hq, fun target h => hstep₁ _ fun acts => by rw [doInvoke_state]; exact hsteps.trans h⟩
  · dsimp only [Pt.U, Pt.locs, Pt.cells, Pt.slots] at X' e1 e2 h1 h2 h3 hsteps hcl
    subst h1; subst h2; subst h3
    exact Or.inr ⟨q, (T.setVm vm₁).calling g' mk9 As.toArray, t, U', L, E, ce, hT, X', hL, e1, e2, hq, hce, hcv, vx_cls X₁.warmed hcl, hstep₁ _ fun acts => by rw [doInvoke_state]; exact hsteps⟩
end Z9
