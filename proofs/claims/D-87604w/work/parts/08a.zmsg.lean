/-! messages of the machine -/
set_option maxRecDepth 100000
theorem zc_named {vm : Vm} {nm : String} {c : ClassId} {k : Class} (hf : vm.findClass nm = some c) (hk : vm.classes[c]? = some k) : k.name = nm ∧ k.hidden = none ∧ k.loader = none := by
  obtain ⟨hlt, hp, -⟩ := Array.findIdx?_eq_some_iff_getElem.mp hf
  obtain ⟨hlt2, he⟩ := Array.getElem?_eq_some_iff.mp hk
  rw [he] at hp
  simp only [Bool.and_eq_true, beq_iff_eq, Option.isNone_iff_eq_none] at hp
  exact ⟨hp.1.1.1, hp.1.1.2, hp.2⟩
theorem zc_shown {vm : Vm} {nm : String} {c : ClassId} {k : Class} (hf : vm.findClass nm = some c) (hk : vm.classes[c]? = some k) : k.shown = dotted nm := by
  obtain ⟨h1, h2, -⟩ := zc_named hf hk
  unfold Class.shown
  rw [h2, h1]
/-- a class of the unnamed package, of the bootstrap loader, lives in java.base or in the unnamed module -/
theorem zc_home {U : State} (hm : modulesRight_1 U = true) {nm : String} {c : ClassId} {k : Class} (hf : U.vm.findClass nm = some c) (hk : U.vm.classes[c]? = some k) (ho : k.kind = .ordinary) (hp : castPackages_1.contains (packageOf nm) = true) : U.vm.home k = "module java.base of loader 'bootstrap'" ∨ U.vm.home k = "unnamed module of loader 'bootstrap'" := by
  obtain ⟨h1, h2, h3⟩ := zc_named hf hk
  have hof : k.ofPrimitives = false := by unfold Class.ofPrimitives; rw [ho]
  unfold Vm.home
  rw [h3]
  unfold Vm.moduleOf
  rw [hof, h3, h1]
  simp only [Bool.false_eq_true, if_false]
  cases hfd : List.find? (fun m : ModuleInfo => m.loader == none && m.packages.contains (packageOf nm)) U.vm.modules with
  | none => exact Or.inr (by rfl)
  | some mi =>
    left
    have hmem := List.mem_of_find?_eq_some hfd
    have hpr := List.find?_some hfd
    simp only [Bool.and_eq_true, beq_iff_eq] at hpr
    unfold modulesRight_1 at hm
    have h9 := List.all_eq_true.mp hm mi hmem
    have hany : (castPackages_1.any fun p => mi.packages.contains p) = true := by
      rw [List.any_eq_true]
      exact ⟨packageOf nm, by simpa using hp, hpr.2⟩
    rw [hany, hpr.1] at h9
    have hnm : mi.name = "java.base" := by simpa using h9
    show "module " ++ mi.name ++ " of loader " ++ U.vm.loaderName none = _
    rw [hnm]; rfl
theorem zc_cceT {U : State} (hm : modulesRight_1 U = true) {nm : String} (hnm : nm = "ChurchyardBook$Tree" ∨ nm = "ChurchyardBook$Way") {c1 c2 : ClassId} {k1 k2 : Class} (f1 : U.vm.findClass nm = some c1) (g1 : U.vm.classes[c1]? = some k1) (o1 : k1.kind = .ordinary) (f2 : U.vm.findClass "ChurchyardBook$Grave" = some c2) (g2 : U.vm.classes[c2]? = some k2) (o2 : k2.kind = .ordinary) :
    ((Op.checkcast.message U.vm k1 k2) == notModelled) = false ∧ (stringBytes (stringToUtf16 (Op.checkcast.message U.vm k1 k2))).size ≤ 1000 := by
  have s1 := zc_shown f1 g1
  have s2 := zc_shown f2 g2
  have a1 := zc_home hm f1 g1 o1 (by rcases hnm with rfl | rfl <;> decide +kernel)
  have a2 := zc_home hm f2 g2 o2 (by decide +kernel)
  unfold Op.checkcast.message Vm.homes
  rw [s1, s2]
  by_cases hs : U.vm.sameModule k1 k2 = true
  · rw [if_pos hs]
    rcases hnm with rfl | rfl <;> rcases a1 with a1 | a1 <;> rw [a1] <;> decide +kernel
  · rw [if_neg hs]
    rcases hnm with rfl | rfl <;> rcases a1 with a1 | a1 <;> rcases a2 with a2 | a2 <;> rw [a1, a2] <;> decide +kernel
