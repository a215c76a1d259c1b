/-! a cast that fails: ClassCastException, its text bounded by the start's modules -/
set_option maxRecDepth 100000
/-- what findClass says of the record that it finds -/
theorem fc_rec {vm : Vm} {nm : String} {c : ClassId} (h : vm.findClass nm = some c) : ∃ k : Class, vm.classes[c]? = some k ∧ k.name = nm ∧ k.hidden = none ∧ k.loader = none := by
  obtain ⟨hlt, hp, -⟩ := Array.findIdx?_eq_some_iff_getElem.mp h
  refine ⟨vm.classes[c], by simp [hlt], ?_⟩
  simp only [Bool.and_eq_true, beq_iff_eq, Option.isNone_iff_eq_none] at hp
  exact ⟨hp.1.1.1, hp.1.1.2, hp.2⟩
def caNm : List String := [RX2, RX3, RX4, RX5, RX6, RX7]
theorem ca_pkg : ∀ nm ∈ caNm, packageOf nm = "" := by decide +kernel
theorem ca_shown : ∀ nm ∈ caNm, (dotted nm).toList.length ≤ 16 := by decide +kernel
theorem ca_home {U : State} {k : Class} {nm : String} (hM : modulesRight_1 U = true) (hnm : nm ∈ caNm) (hn : k.name = nm) (hl : k.loader = none) (ho : k.kind = .ordinary) : (U.vm.home k).toList.length ≤ 40 := by
  have hof : k.ofPrimitives = false := by unfold Class.ofPrimitives; rw [ho]
  have hld : U.vm.loaderName k.loader = "'bootstrap'" := by rw [hl]; rfl
  unfold Vm.home
  rw [hld]
  cases hm : U.vm.moduleOf k with
  | none =>
    show ("unnamed module" ++ " of loader " ++ "'bootstrap'").toList.length ≤ 40
    decide
  | some mo =>
    unfold Vm.moduleOf at hm
    rw [hof] at hm
    have h1 : mo ∈ U.vm.modules := by
      simp only [Bool.false_eq_true, if_false] at hm
      exact List.mem_of_find?_eq_some hm
    have h2 : (mo.loader == k.loader && mo.packages.contains (packageOf k.name)) = true := by
      simp only [Bool.false_eq_true, if_false] at hm
      have h9 := List.find?_some hm
      exact h9
    rw [hn, ca_pkg nm hnm, hl, Bool.and_eq_true] at h2
    have h3 : (mo.loader.isSome || mo.name == "java.base" || !(castPackages_1.any fun p => mo.packages.contains p)) = true := by
      unfold modulesRight_1 at hM
      exact List.all_eq_true.mp hM mo h1
    have h4 : mo.loader = none := by simpa using h2.1
    have h5 : (castPackages_1.any fun p => mo.packages.contains p) = true := by
      unfold castPackages_1
      rw [List.any_cons, h2.2, Bool.true_or]
    rw [h4, h5] at h3
    have h6 : mo.name = "java.base" := by simpa using h3
    show ("module " ++ mo.name ++ " of loader " ++ "'bootstrap'").toList.length ≤ 40
    rw [h6]
    decide
theorem ca_msg {U : State} {k1 k2 : Class} {n1 n2 : String} (hM : modulesRight_1 U = true) (h1 : n1 ∈ caNm) (h2 : n2 ∈ caNm) (e1 : k1.name = n1 ∧ k1.hidden = none ∧ k1.loader = none ∧ k1.kind = .ordinary) (e2 : k2.name = n2 ∧ k2.hidden = none ∧ k2.loader = none ∧ k2.kind = .ordinary) : (checkcast.message U.vm k1 k2).toList.length ≤ 240 ∧ (checkcast.message U.vm k1 k2 == notModelled) = false := by
  have s1 : k1.shown = dotted n1 := by unfold Class.shown; rw [e1.2.1, e1.1]
  have s2 : k2.shown = dotted n2 := by unfold Class.shown; rw [e2.2.1, e2.1]
  have a1 := ca_shown n1 h1
  have a2 := ca_shown n2 h2
  have b1 := ca_home hM h1 e1.1 e1.2.2.1 e1.2.2.2
  have b2 := ca_home hM h2 e2.1 e2.2.2.1 e2.2.2.2
  have hh : (U.vm.homes k1 k2).toList.length ≤ 130 := by
    unfold Vm.homes
    rw [s1, s2]
    have l1 : (toString " and ").toList.length = 5 := rfl
    have l2 : (toString " are in ").toList.length = 8 := rfl
    have l3 : (toString " is in ").toList.length = 7 := rfl
    have l4 : (toString "; ").toList.length = 2 := rfl
    have t1 : toString (dotted n1) = dotted n1 := rfl
    have t2 : toString (dotted n2) = dotted n2 := rfl
    have t3 : toString (U.vm.home k1) = U.vm.home k1 := rfl
    have t4 : toString (U.vm.home k2) = U.vm.home k2 := rfl
    split
    · simp only [String.toList_append, List.length_append, t1, t2, t3, t4]
      omega
    · simp only [String.toList_append, List.length_append, t1, t2, t3, t4]
      omega
  have hm : checkcast.message U.vm k1 k2 = toString "class " ++ toString k1.shown ++ toString " cannot be cast to class " ++ toString k2.shown ++ toString " (" ++ toString (U.vm.homes k1 k2) ++ toString ")" := rfl
  rw [hm, s1, s2]
  have l1 : (toString "class ").toList.length = 6 := rfl
  have l2 : (toString " cannot be cast to class ").toList.length = 25 := rfl
  have l3 : (toString " (").toList.length = 2 := rfl
  have l4 : (toString ")").toList.length = 1 := rfl
  have t1 : toString (dotted n1) = dotted n1 := rfl
  have t2 : toString (dotted n2) = dotted n2 := rfl
  have t3 : toString (U.vm.homes k1 k2) = U.vm.homes k1 k2 := rfl
  refine ⟨?_, ?_⟩
  · simp only [String.toList_append, List.length_append, t1, t2, t3]
    omega
  · rw [beq_eq_false_iff_ne]
    intro h
    have h9 := congrArg String.toList h
    simp only [String.toList_append, List.append_assoc] at h9
    have h8 : (toString "class ").toList = 'c' :: "lass ".toList := rfl
    have h4 : notModelled.toList = '\u0000' :: " a message that is not modelled".toList := rfl
    rw [h8, h4] at h9
    injection h9 with h5 h6
    exact absurd h5 (by decide)
section XCA
variable {p : Program} {l : Launch} {e : Env} {R : Room} {s : State} {m : MethodId} {args : Array Value} {below : List Frame} {meth : Method} {c : Code} {H : Heap} {locs : List Loc} {cells slots : Nat} {Q : State → Prop}
variable {cc : ByteArray} {pc : Nat} {ls : Array Slot} {rest : List Value} {a : Nat}
theorem vx_ckcastZ (hexec : p.tables.exec = Jvm.exec) (hb : c.code = cc) {own C nm : String} {index : Nat} (hown : s.vm.findClass own = some m.cls) (hlink : (Cond.classLink own index nm).before args s = true) (hc : va_Nc C nm s) (hM : modulesRight_1 s = true) (h1 : C ∈ caNm) (h2 : nm ∈ caNm)
    (hr : ∃ cell : Cell, H[a]? = some cell ∧ cell.vm.isStatics = false ∧ s.vm.findClass C = some cell.cls) (ho1 : ∀ (i : ClassId) (k : Class), s.vm.findClass C = some i → s.vm.classes[i]? = some k → k.kind = .ordinary) (ho2 : ∀ (i : ClassId) (k : Class), s.vm.findClass nm = some i → s.vm.classes[i]? = some k → k.kind = .ordinary) (hdg : decode cc pc = .ok (.checkcast index, 3))
    (k : ∀ tx : String, tx.toList.length ≤ 240 → (tx == notModelled) = false → vx_Note p l e R s m args below meth c H locs cells slots Q (F0 m pc ls (.ref a :: rest)) "java/lang/ClassCastException" tx) : W p l e R s m args below meth c H locs cells slots Q (F0 m pc ls (.ref a :: rest)) := by
  obtain ⟨cell, g1, g2, g3⟩ := hr
  obtain ⟨c0, t0, f1, f2, f3⟩ := hc
  cases g3.symm.trans f1
  intro T hT X
  have hpl : e.platform.magicAccessors = ({} : Platform).magicAccessors := by rw [X.admits.platform]
  obtain ⟨c', hc', hcl⟩ := Cond.classLink_spec hown hlink e.platform hpl
  cases f2.symm.trans hc'
  obtain ⟨ks, hks, n1, hd1, ld1⟩ := fc_rec f1
  obtain ⟨kt, hkt, n2, hd2, ld2⟩ := fc_rec f2
  have o1 := ho1 _ _ f1 hks
  have o2 := ho2 _ _ f2 hkt
  obtain ⟨dk, _, _, _, hd, _, _, _, _, _, _, hopen⟩ := hcl.here
  have hcl₀ := X.warmed.classLinks hcl
  have hW' : s.WarmedH (T.vm.noted m.cls index (.cls t0)) := X.warmed.noted hd hopen (State.rightAt_cls hcl)
  obtain ⟨ks', hks', es⟩ := hW'.alike.2.2 _ _ hks
  obtain ⟨kt', hkt', et⟩ := hW'.alike.2.2 _ _ hkt
  have hM' : modulesRight_1 (T.setVm (T.vm.noted m.cls index (.cls t0))) = true := by
    have hmo : (T.vm.noted m.cls index (.cls t0)).modules = s.vm.modules := by rw [hW'.alike.1]
    unfold modulesRight_1 at hM ⊢
    show (T.vm.noted m.cls index (.cls t0)).modules.all _ = true
    rw [hmo]
    exact hM
  obtain ⟨hlen, hmod⟩ := ca_msg (U := T.setVm (T.vm.noted m.cls index (.cls t0))) (k1 := ks') (k2 := kt') hM' h1 h2 ⟨by rw [es]; exact n1, by rw [es]; exact hd1, by rw [es]; exact ld1, by rw [es]; exact o1⟩ ⟨by rw [et]; exact n2, by rw [et]; exact hd2, by rw [et]; exact ld2, by rw [et]; exact o2⟩
  obtain ⟨t, st, q⟩ := k _ hlen hmod (T.setVm (T.vm.noted m.cls index (.cls t0))) hT (X.noted hW')
  refine ⟨t, ?_, q⟩
  have hcell : T.heap[a]? = some cell := by rw [hT]; exact g1
  jvm_step X.here [hexec, (by rw [hb]; exact hdg : decode c.code pc = .ok (.checkcast index, 3)), checkcast.wp_cold (e := e) (s := T) (f := F0 m pc ls (.ref a :: rest)) X.here.top rfl (resolveClass_links e.toSetting hcl₀) hcl₀.ready,
    checkcast.wp_ready (e := e) (s := T.setVm (T.vm.noted m.cls index (.cls t0))) (f := F0 m pc ls (.ref a :: rest)) X.here.top hcl₀.ready rfl]
  refine ⟨cell, hcell, VmData.noStatics_of g2, ks', hks', kt', hkt', ?_⟩
  rw [if_neg (by rw [hW'.alike.assignable, f3]; decide)]
  exact st
end XCA
