/-! rings: one cell, of one of six classes; calls of overriding methods and of a superclass's -/
set_option maxRecDepth 100000
def WR (kd : Nat) (num : Int32) (q : Nat) : va_W × Prop := ([(q, .inr (2 + kd, [.int num]))], True)
def rgC : Nat → vw_C := fun k => match k with
  | 0 => (RX2, TX2, 1)
  | 1 => (RX3, TX3, 1)
  | 2 => (RX4, TX4, 1)
  | 3 => (RX5, TX5, 1)
  | 4 => (RX6, TX6, 1)
  | _ => (RX7, TX7, 1)
theorem rg_cl : ∀ {k : Nat}, k < 6 → clA[2 + k]? = some (rgC k)
  | 0, _ => rfl
  | 1, _ => rfl
  | 2, _ => rfl
  | 3, _ => rfl
  | 4, _ => rfl
  | 5, _ => rfl
  | k + 6, h => absurd h (by omega)
theorem lw_SU {own : String} {idx : Nat} {y : MethodName} {b : ByteArray} {L : Nat} {r : Option FieldType} (h1 : Cond.methodLink own idx y ∈ lw_all) (h2 : Cond.sameMethod y.cls y.cls y.name y.desc ∈ lw_all) (h3 : Cond.superclass own y.cls ∈ lw_all) (h4 : Cond.instanceMethod y ∈ lw_all) (h5 : Cond.initialized y.cls ∈ lw_all) (h6 : Cond.code y b L r ∈ lw_all) : GoodIn lw_all (va_wsSU own idx y (ws_ y b L r)) := by
  refine lw_app (fun w h => ?_) (lw_meth h6)
  simp only [List.mem_cons, List.not_mem_nil, or_false] at h
  rcases h with rfl | rfl | rfl | rfl | rfl
  · exact h1
  · exact h2
  · exact h3
  · exact h4
  · exact h5
theorem lw_O {own : String} {idx : Nat} {C owner : String} {x y : MethodName} {b : ByteArray} {L : Nat} {r : Option FieldType} (h1 : Cond.methodLink own idx x ∈ lw_all) (h2 : Cond.sameMethod x.cls owner x.name x.desc ∈ lw_all) (h3 : Cond.instanceMethod ⟨owner, x.name, x.desc⟩ ∈ lw_all) (h4 : Cond.selects C x y ∈ lw_all) (h5 : Cond.instanceMethod y ∈ lw_all) (h6 : Cond.initialized y.cls ∈ lw_all) (h7 : Cond.code y b L r ∈ lw_all) : GoodIn lw_all (va_wsO own idx C owner x y (ws_ y b L r)) := by
  refine lw_app (fun w h => ?_) (lw_meth h7)
  simp only [List.mem_cons, List.not_mem_nil, or_false] at h
  rcases h with rfl | rfl | rfl | rfl | rfl | rfl
  · exact h1
  · exact h2
  · exact h3
  · exact h4
  · exact h5
  · exact h6
section RB
variable {p : Program} {l : Launch} {e : Env} {R : Room} {s : State} {m : MethodId} {args : Array Value} {below : List Frame} {meth : Method} {c : Code} {H : Heap} {locs : List Loc} {cells slots : Nat} {Q : State → Prop}
variable {cc bytes : ByteArray} {pc nL maxL idx sz b q kd : Nat} {num : Int32} {ls : Array Slot} {rest av st0 : List Value} {lv : List (Nat × Value)} {D : va_G} {ct : Nat → ClassId} {A : Nat → Prop} {as : List Nat} {H0 : Heap} {ws : va_W × Prop} {own C owner : String} {x y : MethodName} {ret : Option FieldType} {rm : Room} {E : State → Prop}
theorem rg_at (hK : va_K D clA (tysG ct) s) (hkd : kd < 6) : ClassAt s (rgC kd).1 (D.1 (2 + kd)) := (hK.1 (2 + kd) (rgC kd) (rg_cl hkd)).2
theorem rg_recv (hK : va_K D clA (tysG ct) s) {w : va_W} (hP : va_P D clA w H) (hkd : kd < 6) {k : Nat} (hk : w[k]? = some (q, .inr (2 + kd, [.int num]))) : ∃ cellB : Cell, H[q]? = some cellB ∧ cellB.vm.isStatics = false ∧ s.vm.findClass (rgC kd).1 = some cellB.cls := va_recv hK hP (rg_cl hkd) hk
/-- a superclass's method, on the same ring -/
theorem t_super {v : Int32} (S : CallFix p m c cc nL s args lw_all own) (hl : lv_has ls nL lv) (hK : va_K D clA (tysG ct) s) (hH : GH D A [q] H0 (WR kd num q) H locs) (hkd : kd < 6) (hM : Met l y (ws_ y bytes maxL ret) rm (GPre gE_0 D ct [q] (WR kd num q) H.size (.ref q :: av)) (vp_Si (fun r => r = v)) 0 0 (fun _ => False))
    (hG : GoodIn lw_all (va_wsSU own idx y (ws_ y bytes maxL ret))) (hrc : rm.cells = 0) (hrs : rm.slots = 0) (hd : y.name ≠ "<init>" ∧ (parseMethodDescriptor y.desc).map (fun d => d.parameters.length) = some av.length) (hR : rm.frames + 1 ≤ R.frames ∧ 8 + (maxL + 11) + rm.locals ≤ R.locals)
    (hst : st0 = av.reverse ++ .ref q :: rest) (hsum : (rest.map fun v => v.category).sum ≤ 8) (hdg : decode cc pc = .ok (.invokespecial idx, 3)) (hf : cells ≤ R.cells ∧ slots ≤ R.slots)
    (k : W p l e R s m args below meth c H locs cells slots Q (F0 m (pc + 3) ls (.int v :: rest))) : W p l e R s m args below meth c H locs cells slots Q (F0 m pc ls st0) := by
  have hp := g_pre (av := .ref q :: av) gE_0_ok trivial hK hH
  refine vp_callSi (va_Run.run (va_runSU (As := av) (rest := rest) (rg_at hK hkd) S hM (va_cwSU av.length S.2.2.2.2 hG rfl hrc hrs hd hR) ⟨hp.1, rg_recv hK hH.1 hkd (k := 0) rfl, hp.2⟩ rfl rfl hl.1 hst (lv_room hsum) hdg hf)) (fun r h => ?_)
  subst h
  exact k
/-- an overriding or inherited method, reads a world -/
theorem o_calli {v : Int32} (S : CallFix p m c cc nL s args lw_all own) (hl : lv_has ls nL lv) (hE : gE_ok E) (hEs : E s) (hK : va_K D clA (tysG ct) s) (hH : GH D A as H0 ws H locs) (hM : Met l y (ws_ y bytes maxL ret) rm (GPre E D ct as ws H.size (.ref b :: av)) (vp_Si (fun r => r = v)) 0 0 (fun _ => False))
    (hG : GoodIn lw_all (va_wsO own idx C owner x y (ws_ y bytes maxL ret))) {b0 : ByteArray} {m0 : Nat} {r0 : Option FieldType} (h0 : Cond.code ⟨owner, x.name, x.desc⟩ b0 m0 r0 ∈ lw_all) (hrc : rm.cells = 0) (hrs : rm.slots = 0) (hd : owner ≠ "java/lang/invoke/MethodHandle" ∧ owner ≠ "java/lang/invoke/VarHandle" ∧ (parseMethodDescriptor x.desc).map (fun d => d.parameters.length) = some av.length) (hR : rm.frames + 1 ≤ R.frames ∧ 8 + (maxL + 11) + rm.locals ≤ R.locals)
    (hb : ∃ cellB : Cell, H[b]? = some cellB ∧ cellB.vm.isStatics = false ∧ s.vm.findClass C = some cellB.cls)
    (hst : st0 = av.reverse ++ .ref b :: rest) (hsum : (rest.map fun v => v.category).sum ≤ 8) (hdg : decode cc pc = .ok (.invokevirtual idx, 3)) (hf : cells ≤ R.cells ∧ slots ≤ R.slots)
    (k : W p l e R s m args below meth c H locs cells slots Q (F0 m (pc + 3) ls (.int v :: rest))) : W p l e R s m args below meth c H locs cells slots Q (F0 m pc ls st0) := by
  have hp := g_pre (av := .ref b :: av) hE hEs hK hH
  refine vp_callSi (va_Run.run (va_runU (As := av) (rest := rest) S hM (va_cwO av.length S.2.2.2.2 hG rfl hrc hrs h0 hd hR) ⟨hp.1, hb, hp.2⟩ rfl rfl hl.1 hst (lv_room hsum) hdg hf)) (fun r h => ?_)
  subst h
  exact k
end RB
section RB2
variable {s : State} {H : Heap} {locs : List Loc} {q kd k : Nat} {num : Int32} {D : va_G}
/-- one ring, cut out of a world -/
theorem rg_world {w : va_W} (hP : va_P D clA w H) (hk : w[k]? = some (q, .inr (2 + kd, [.int num]))) : GH D (fun _ => True) [q] H (WR kd num q) H locs := by
  refine ⟨fun j r hj => ?_, ⟨fun i j p r hi hj _ => ?_, fun j r hj => ?_⟩, ⟨Nat.le_refl _, fun _ _ _ => rfl, fun _ _ => trivial⟩, fun _ _ => trivial, fun _ _ => trivial, trivial⟩
  · have hz : j < 1 := (List.getElem?_eq_some_iff.mp hj).1
    rw [show j = 0 by omega] at hj
    cases hj
    exact hP k _ hk
  · have h1 : i < 1 := (List.getElem?_eq_some_iff.mp hi).1
    have h2 : j < 1 := (List.getElem?_eq_some_iff.mp hj).1
    omega
  · have hz : j < 1 := (List.getElem?_eq_some_iff.mp hj).1
    rw [show j = 0 by omega] at hj
    cases hj
    exact List.mem_singleton.mpr rfl
theorem xg_has {ct : Nat → ClassId} {a : XA} {ρ : Option Nat} {st : XS} {A : Nat → Prop} {H0 : Heap} {j : Nat} (hH : GH D A (xAs a) H0 (WX ct a ρ st) H locs) (hj : j < 11) (hg : xg st j = some (kd, num)) : ∃ (q k : Nat), ag a j = some q ∧ kd < 6 ∧ (WX ct a ρ st).1[k]? = some (q, .inr (2 + kd, [.int num])) := by
  obtain ⟨q, hq⟩ := opt_of_isSome (xo_g hH hj) hg
  obtain ⟨P1, P2, e1⟩ := wx_g ct a ρ st hj
  have hp : gP a st j = [(q, .inr (2 + kd, [.int num]))] := by unfold gP; rw [hq, hg]
  refine ⟨q, P1.length + 0, hq, hH.2.2.2.2.2.1.2.2.2 j (kd, num) hj hg, ?_⟩
  rw [e1, hp]
  exact fl_at P1 _ P2 0 rfl
end RB2
/-! CapCouncil$Ring.has (IIII)Z -/
def X2_has (a1 : Int32) (a2 : Int32) (a3 : Int32) (a4 : Int32) : Option Int32 :=
  if a3 < a1 then
    (some (0 : Int32))
  else
    (some (1 : Int32))
def rm_X2_has : Room := { frames := 0, cells := 0, slots := 0, locals := 0 }
set_option maxHeartbeats 4000000 in
set_option maxRecDepth 100000 in
theorem met_X2_has (l : Launch) (D : va_G) (ct : Nat → ClassId) (q : Nat) (sz : Nat) (kd : Nat) (num : Int32) (hkd : kd < 6) (a1 : Int32) (a2 : Int32) (a3 : Int32) (a4 : Int32) (z : Int32) (hd : X2_has a1 a2 a3 a4 = some z) : Met l yX2_has (ws_ yX2_has cX2_has 5 (some .boolean)) rm_X2_has (GPre gE_0 D ct [q] (WR kd num q) sz [.ref q, .int a1, .int a2, .int a3, .int a4]) (vp_Si (fun r => r = z)) 0 0 (fun _ => False) := by
  refine g_met (cc := cX2_has) (maxL := 5) (ret := (some .boolean)) (by decide) (Nat.le_of_ble_eq_true rfl) ?_
  intro p e U m args below meth c ls S hr hlk hK hH hE hsz hl
  have S : CallFix p m c cX2_has 5 U args lw_all RX2 := S
  have hx := S.1
  have hb := S.2.1
  have hl : lv_has ls 5 [(0, .ref q), (1, .int a1), (2, .int a2), (3, .int a3), (4, .int a4)] := hl
  unfold X2_has at hd
  refine lv_iload_n (pc := 0) hx hb dX2_has_0 rfl (lv_at hl 1 rfl) ?_
  refine lv_iload_n (pc := 1) hx hb dX2_has_1 rfl (lv_at hl 3 rfl) ?_
  refine lv_icmp_gt (pc := 2) (tgt := 9) hx hb dX2_has_2 (by decide) (fun c1 => ?_) (fun c1 => ?_)
  · have hd := if_t c1 hd
    refine lv_iconst (v := (0 : Int32)) (pc := 9) hx hb dX2_has_9 (by decide) ?_
    exact r_zret rfl hd S hr hlk dX2_has_10
  · have hd := if_n c1 hd
    refine lv_iconst (v := (1 : Int32)) (pc := 5) hx hb dX2_has_5 (by decide) ?_
    refine lv_goto (pc := 6) (tgt := 10) hx hb dX2_has_6 (by decide) ?_
    exact r_zret rfl hd S hr hlk dX2_has_10
section CR_X2_has
variable {p : Program} {l : Launch} {e : Env} {R : Room} {s : State} {m : MethodId} {args : Array Value} {below : List Frame} {meth : Method} {c : Code} {H : Heap} {locs : List Loc} {cells slots : Nat} {Q : State → Prop}
variable {cc : ByteArray} {pc nL idx : Nat} {ls : Array Slot} {rest : List Value} {lv : List (Nat × Value)} {A : Nat → Prop} {H0 : Heap} {own : String}
theorem sup_X2_has {D : va_G} {ct : Nat → ClassId} {q kd : Nat} {num : Int32} {a1 : Int32} {a2 : Int32} {a3 : Int32} {a4 : Int32} {z : Int32} (S : CallFix p m c cc nL s args lw_all own) (hl : lv_has ls nL lv) (hK : va_K D clA (tysG ct) s) (hH : GH D A [q] H0 (WR kd num q) H locs) (hkd : kd < 6) (hlk : Cond.methodLink own idx yX2_has ∈ lw_all) (hsup : Cond.superclass own RX2 ∈ lw_all) (hv : X2_has a1 a2 a3 a4 = some z) (hR : 1 ≤ R.frames ∧ 24 ≤ R.locals) (hsum : (rest.map fun v => v.category).sum ≤ 8) (hdg : decode cc pc = .ok (.invokespecial idx, 3)) (hf : cells ≤ R.cells ∧ slots ≤ R.slots) (k : W p l e R s m args below meth c H locs cells slots Q (F0 m (pc + 3) ls (.int z :: rest))) : W p l e R s m args below meth c H locs cells slots Q (F0 m pc ls (.int a4 :: .int a3 :: .int a2 :: .int a1 :: .ref q :: rest)) :=
  t_super (av := [.int a1, .int a2, .int a3, .int a4]) S hl hK hH hkd (met_X2_has l D ct q H.size kd num hkd a1 a2 a3 a4 z hv) (lw_SU hlk q539 hsup q537 q81 q544) rfl rfl ⟨by decide, by show (parseMethodDescriptor yX2_has.desc).map (fun d => d.parameters.length) = some 4; decide +kernel⟩ hR rfl hsum hdg hf k
end CR_X2_has
/-! CapCouncil$Ring.is (I)Z -/
def X2_is (a1 : Int32) : Option Int32 :=
  if a1 = 0 then
    (some (1 : Int32))
  else
    (some (0 : Int32))
def rm_X2_is : Room := { frames := 0, cells := 0, slots := 0, locals := 0 }
set_option maxHeartbeats 4000000 in
set_option maxRecDepth 100000 in
theorem met_X2_is (l : Launch) (D : va_G) (ct : Nat → ClassId) (q : Nat) (sz : Nat) (kd : Nat) (num : Int32) (hkd : kd < 6) (a1 : Int32) (z : Int32) (hd : X2_is a1 = some z) : Met l yX2_is (ws_ yX2_is cX2_is 2 (some .boolean)) rm_X2_is (GPre gE_0 D ct [q] (WR kd num q) sz [.ref q, .int a1]) (vp_Si (fun r => r = z)) 0 0 (fun _ => False) := by
  refine g_met (cc := cX2_is) (maxL := 2) (ret := (some .boolean)) (by decide) (Nat.le_of_ble_eq_true rfl) ?_
  intro p e U m args below meth c ls S hr hlk hK hH hE hsz hl
  have S : CallFix p m c cX2_is 2 U args lw_all RX2 := S
  have hx := S.1
  have hb := S.2.1
  have hl : lv_has ls 2 [(0, .ref q), (1, .int a1)] := hl
  unfold X2_is at hd
  refine lv_iload_n (pc := 0) hx hb dX2_is_0 rfl (lv_at hl 1 rfl) ?_
  refine lv_if_ne (pc := 1) (tgt := 8) hx hb dX2_is_1 (by decide) (fun c1 => ?_) (fun c1 => ?_)
  · have hd := if_n c1 hd
    refine lv_iconst (v := (0 : Int32)) (pc := 8) hx hb dX2_is_8 (by decide) ?_
    exact r_zret rfl hd S hr hlk dX2_is_9
  · have hd := if_t c1 hd
    refine lv_iconst (v := (1 : Int32)) (pc := 4) hx hb dX2_is_4 (by decide) ?_
    refine lv_goto (pc := 5) (tgt := 9) hx hb dX2_is_5 (by decide) ?_
    exact r_zret rfl hd S hr hlk dX2_is_9
section CR_X2_is
variable {p : Program} {l : Launch} {e : Env} {R : Room} {s : State} {m : MethodId} {args : Array Value} {below : List Frame} {meth : Method} {c : Code} {H : Heap} {locs : List Loc} {cells slots : Nat} {Q : State → Prop}
variable {cc : ByteArray} {pc nL idx : Nat} {ls : Array Slot} {rest : List Value} {lv : List (Nat × Value)} {A : Nat → Prop} {H0 : Heap} {own : String}
theorem sup_X2_is {D : va_G} {ct : Nat → ClassId} {q kd : Nat} {num : Int32} {a1 : Int32} {z : Int32} (S : CallFix p m c cc nL s args lw_all own) (hl : lv_has ls nL lv) (hK : va_K D clA (tysG ct) s) (hH : GH D A [q] H0 (WR kd num q) H locs) (hkd : kd < 6) (hlk : Cond.methodLink own idx yX2_is ∈ lw_all) (hsup : Cond.superclass own RX2 ∈ lw_all) (hv : X2_is a1 = some z) (hR : 1 ≤ R.frames ∧ 21 ≤ R.locals) (hsum : (rest.map fun v => v.category).sum ≤ 8) (hdg : decode cc pc = .ok (.invokespecial idx, 3)) (hf : cells ≤ R.cells ∧ slots ≤ R.slots) (k : W p l e R s m args below meth c H locs cells slots Q (F0 m (pc + 3) ls (.int z :: rest))) : W p l e R s m args below meth c H locs cells slots Q (F0 m pc ls (.int a1 :: .ref q :: rest)) :=
  t_super (av := [.int a1]) S hl hK hH hkd (met_X2_is l D ct q H.size kd num hkd a1 z hv) (lw_SU hlk q859 hsup q857 q81 q864) rfl rfl ⟨by decide, by show (parseMethodDescriptor yX2_is.desc).map (fun d => d.parameters.length) = some 1; decide +kernel⟩ hR rfl hsum hdg hf k
end CR_X2_is
/-! CapCouncil$Ring.kind ()I -/
def X2_kind : Option Int32 :=
  some (0 : Int32)
def rm_X2_kind : Room := { frames := 0, cells := 0, slots := 0, locals := 0 }
set_option maxHeartbeats 4000000 in
set_option maxRecDepth 100000 in
theorem met_X2_kind (l : Launch) (D : va_G) (ct : Nat → ClassId) (q : Nat) (sz : Nat) (kd : Nat) (num : Int32) (hkd : kd < 6) (z : Int32) (hd : X2_kind = some z) : Met l yX2_kind (ws_ yX2_kind cX2_kind 1 (some .int)) rm_X2_kind (GPre gE_0 D ct [q] (WR kd num q) sz [.ref q]) (vp_Si (fun r => r = z)) 0 0 (fun _ => False) := by
  refine g_met (cc := cX2_kind) (maxL := 1) (ret := (some .int)) (by decide) (Nat.le_of_ble_eq_true rfl) ?_
  intro p e U m args below meth c ls S hr hlk hK hH hE hsz hl
  have S : CallFix p m c cX2_kind 1 U args lw_all RX2 := S
  have hx := S.1
  have hb := S.2.1
  have hl : lv_has ls 1 [(0, .ref q)] := hl
  unfold X2_kind at hd
  refine lv_iconst (v := (0 : Int32)) (pc := 0) hx hb dX2_kind_0 (by decide) ?_
  exact r_iret hd S hr hlk dX2_kind_1
section CR_X2_kind
variable {p : Program} {l : Launch} {e : Env} {R : Room} {s : State} {m : MethodId} {args : Array Value} {below : List Frame} {meth : Method} {c : Code} {H : Heap} {locs : List Loc} {cells slots : Nat} {Q : State → Prop}
variable {cc : ByteArray} {pc nL idx : Nat} {ls : Array Slot} {rest : List Value} {lv : List (Nat × Value)} {A : Nat → Prop} {H0 : Heap} {own : String}
theorem sup_X2_kind {D : va_G} {ct : Nat → ClassId} {q kd : Nat} {num : Int32} {z : Int32} (S : CallFix p m c cc nL s args lw_all own) (hl : lv_has ls nL lv) (hK : va_K D clA (tysG ct) s) (hH : GH D A [q] H0 (WR kd num q) H locs) (hkd : kd < 6) (hlk : Cond.methodLink own idx yX2_kind ∈ lw_all) (hsup : Cond.superclass own RX2 ∈ lw_all) (hv : X2_kind = some z) (hR : 1 ≤ R.frames ∧ 20 ≤ R.locals) (hsum : (rest.map fun v => v.category).sum ≤ 8) (hdg : decode cc pc = .ok (.invokespecial idx, 3)) (hf : cells ≤ R.cells ∧ slots ≤ R.slots) (k : W p l e R s m args below meth c H locs cells slots Q (F0 m (pc + 3) ls (.int z :: rest))) : W p l e R s m args below meth c H locs cells slots Q (F0 m pc ls (.ref q :: rest)) :=
  t_super (av := []) S hl hK hH hkd (met_X2_kind l D ct q H.size kd num hkd z hv) (lw_SU hlk q492 hsup q490 q81 q508) rfl rfl ⟨by decide, by show (parseMethodDescriptor yX2_kind.desc).map (fun d => d.parameters.length) = some 0; decide +kernel⟩ hR rfl hsum hdg hf k
end CR_X2_kind
/-! CapCouncil$Old.has (IIII)Z -/
def X3_has (a1 : Int32) (a2 : Int32) (a3 : Int32) (a4 : Int32) : Option Int32 :=
  (X2_has a1 a2 a3 a4).bind fun v1 =>
  if v1 = 0 then
    (some (0 : Int32))
  else
    (if a1 < (a3 / (2 : Int32)) then
      (some (0 : Int32))
    else
      (some (1 : Int32)))
def rm_X3_has : Room := { frames := 1, cells := 0, slots := 0, locals := 24 }
set_option maxHeartbeats 4000000 in
set_option maxRecDepth 100000 in
theorem met_X3_has (l : Launch) (D : va_G) (ct : Nat → ClassId) (q : Nat) (sz : Nat) (kd : Nat) (num : Int32) (hkd : kd < 6) (a1 : Int32) (a2 : Int32) (a3 : Int32) (a4 : Int32) (z : Int32) (hd : X3_has a1 a2 a3 a4 = some z) : Met l yX3_has (ws_ yX3_has cX3_has 5 (some .boolean)) rm_X3_has (GPre gE_0 D ct [q] (WR kd num q) sz [.ref q, .int a1, .int a2, .int a3, .int a4]) (vp_Si (fun r => r = z)) 0 0 (fun _ => False) := by
  refine g_met (cc := cX3_has) (maxL := 5) (ret := (some .boolean)) (by decide) (Nat.le_of_ble_eq_true rfl) ?_
  intro p e U m args below meth c ls S hr hlk hK hH hE hsz hl
  have S : CallFix p m c cX3_has 5 U args lw_all RX3 := S
  have hx := S.1
  have hb := S.2.1
  have hl : lv_has ls 5 [(0, .ref q), (1, .int a1), (2, .int a2), (3, .int a3), (4, .int a4)] := hl
  unfold X3_has at hd
  refine lv_aload_n (pc := 0) hx hb dX3_has_0 rfl (lv_at hl 0 rfl) ?_
  refine lv_iload_n (pc := 1) hx hb dX3_has_1 rfl (lv_at hl 1 rfl) ?_
  refine lv_iload_n (pc := 2) hx hb dX3_has_2 rfl (lv_at hl 2 rfl) ?_
  refine lv_iload_n (pc := 3) hx hb dX3_has_3 rfl (lv_at hl 3 rfl) ?_
  refine lv_iload (pc := 4) hx hb dX3_has_4 (lv_at hl 4 rfl) ?_
  obtain ⟨v1, hv1, hd⟩ := bs_bd hd
  refine sup_X2_has (pc := 6) S hl hK hH hkd q551 q440 hv1 ⟨Nat.le_of_ble_eq_true rfl, Nat.le_of_ble_eq_true rfl⟩ (Nat.le_of_ble_eq_true rfl) dX3_has_6 ⟨Nat.zero_le _, Nat.zero_le _⟩ ?_
  refine lv_if_eq (pc := 9) (tgt := 23) hx hb dX3_has_9 (by decide) (fun c2 => ?_) (fun c2 => ?_)
  · have hd := if_t c2 hd
    refine lv_iconst (v := (0 : Int32)) (pc := 23) hx hb dX3_has_23 (by decide) ?_
    exact r_zret rfl hd S hr hlk dX3_has_24
  · have hd := if_n c2 hd
    refine lv_iload_n (pc := 12) hx hb dX3_has_12 rfl (lv_at hl 1 rfl) ?_
    refine lv_iload_n (pc := 13) hx hb dX3_has_13 rfl (lv_at hl 3 rfl) ?_
    refine lv_iconst (v := (2 : Int32)) (pc := 14) hx hb dX3_has_14 (by decide) ?_
    refine lv_idiv (pc := 15) hx hb dX3_has_15 (by decide) ?_
    refine lv_icmp_lt (pc := 16) (tgt := 23) hx hb dX3_has_16 (by decide) (fun c3 => ?_) (fun c3 => ?_)
    · have hd := if_t c3 hd
      refine lv_iconst (v := (0 : Int32)) (pc := 23) hx hb dX3_has_23 (by decide) ?_
      exact r_zret rfl hd S hr hlk dX3_has_24
    · have hd := if_n c3 hd
      refine lv_iconst (v := (1 : Int32)) (pc := 19) hx hb dX3_has_19 (by decide) ?_
      refine lv_goto (pc := 20) (tgt := 24) hx hb dX3_has_20 (by decide) ?_
      exact r_zret rfl hd S hr hlk dX3_has_24
section CR_X3_has
variable {p : Program} {l : Launch} {e : Env} {R : Room} {s : State} {m : MethodId} {args : Array Value} {below : List Frame} {meth : Method} {c : Code} {H : Heap} {locs : List Loc} {cells slots : Nat} {Q : State → Prop}
variable {cc : ByteArray} {pc nL idx : Nat} {ls : Array Slot} {rest : List Value} {lv : List (Nat × Value)} {A : Nat → Prop} {H0 : Heap} {own : String}
theorem sup_X3_has {D : va_G} {ct : Nat → ClassId} {q kd : Nat} {num : Int32} {a1 : Int32} {a2 : Int32} {a3 : Int32} {a4 : Int32} {z : Int32} (S : CallFix p m c cc nL s args lw_all own) (hl : lv_has ls nL lv) (hK : va_K D clA (tysG ct) s) (hH : GH D A [q] H0 (WR kd num q) H locs) (hkd : kd < 6) (hlk : Cond.methodLink own idx yX3_has ∈ lw_all) (hsup : Cond.superclass own RX3 ∈ lw_all) (hv : X3_has a1 a2 a3 a4 = some z) (hR : 2 ≤ R.frames ∧ 48 ≤ R.locals) (hsum : (rest.map fun v => v.category).sum ≤ 8) (hdg : decode cc pc = .ok (.invokespecial idx, 3)) (hf : cells ≤ R.cells ∧ slots ≤ R.slots) (k : W p l e R s m args below meth c H locs cells slots Q (F0 m (pc + 3) ls (.int z :: rest))) : W p l e R s m args below meth c H locs cells slots Q (F0 m pc ls (.int a4 :: .int a3 :: .int a2 :: .int a1 :: .ref q :: rest)) :=
  t_super (av := [.int a1, .int a2, .int a3, .int a4]) S hl hK hH hkd (met_X3_has l D ct q H.size kd num hkd a1 a2 a3 a4 z hv) (lw_SU hlk q1344 hsup q549 q82 q550) rfl rfl ⟨by decide, by show (parseMethodDescriptor yX3_has.desc).map (fun d => d.parameters.length) = some 4; decide +kernel⟩ hR rfl hsum hdg hf k
end CR_X3_has
/-! CapCouncil$Old.is (I)Z -/
def X3_is (a1 : Int32) : Option Int32 :=
  if a1 = (1 : Int32) then
    (some (1 : Int32))
  else
    ((X2_is a1).bind fun v2 =>
    if v2 = 0 then
      (some (0 : Int32))
    else
      (some (1 : Int32)))
def rm_X3_is : Room := { frames := 1, cells := 0, slots := 0, locals := 21 }
set_option maxHeartbeats 4000000 in
set_option maxRecDepth 100000 in
theorem met_X3_is (l : Launch) (D : va_G) (ct : Nat → ClassId) (q : Nat) (sz : Nat) (kd : Nat) (num : Int32) (hkd : kd < 6) (a1 : Int32) (z : Int32) (hd : X3_is a1 = some z) : Met l yX3_is (ws_ yX3_is cX3_is 2 (some .boolean)) rm_X3_is (GPre gE_0 D ct [q] (WR kd num q) sz [.ref q, .int a1]) (vp_Si (fun r => r = z)) 0 0 (fun _ => False) := by
  refine g_met (cc := cX3_is) (maxL := 2) (ret := (some .boolean)) (by decide) (Nat.le_of_ble_eq_true rfl) ?_
  intro p e U m args below meth c ls S hr hlk hK hH hE hsz hl
  have S : CallFix p m c cX3_is 2 U args lw_all RX3 := S
  have hx := S.1
  have hb := S.2.1
  have hl : lv_has ls 2 [(0, .ref q), (1, .int a1)] := hl
  unfold X3_is at hd
  refine lv_iload_n (pc := 0) hx hb dX3_is_0 rfl (lv_at hl 1 rfl) ?_
  refine lv_iconst (v := (1 : Int32)) (pc := 1) hx hb dX3_is_1 (by decide) ?_
  refine lv_icmp_eq (pc := 2) (tgt := 13) hx hb dX3_is_2 (by decide) (fun c1 => ?_) (fun c1 => ?_)
  · have hd := if_t c1 hd
    refine lv_iconst (v := (1 : Int32)) (pc := 13) hx hb dX3_is_13 (by decide) ?_
    refine lv_goto (pc := 14) (tgt := 18) hx hb dX3_is_14 (by decide) ?_
    exact r_zret rfl hd S hr hlk dX3_is_18
  · have hd := if_n c1 hd
    refine lv_aload_n (pc := 5) hx hb dX3_is_5 rfl (lv_at hl 0 rfl) ?_
    refine lv_iload_n (pc := 6) hx hb dX3_is_6 rfl (lv_at hl 1 rfl) ?_
    obtain ⟨v2, hv2, hd⟩ := bs_bd hd
    refine sup_X2_is (pc := 7) S hl hK hH hkd q871 q440 hv2 ⟨Nat.le_of_ble_eq_true rfl, Nat.le_of_ble_eq_true rfl⟩ (Nat.le_of_ble_eq_true rfl) dX3_is_7 ⟨Nat.zero_le _, Nat.zero_le _⟩ ?_
    refine lv_if_eq (pc := 10) (tgt := 17) hx hb dX3_is_10 (by decide) (fun c3 => ?_) (fun c3 => ?_)
    · have hd := if_t c3 hd
      refine lv_iconst (v := (0 : Int32)) (pc := 17) hx hb dX3_is_17 (by decide) ?_
      exact r_zret rfl hd S hr hlk dX3_is_18
    · have hd := if_n c3 hd
      refine lv_iconst (v := (1 : Int32)) (pc := 13) hx hb dX3_is_13 (by decide) ?_
      refine lv_goto (pc := 14) (tgt := 18) hx hb dX3_is_14 (by decide) ?_
      exact r_zret rfl hd S hr hlk dX3_is_18
section CR_X3_is
variable {p : Program} {l : Launch} {e : Env} {R : Room} {s : State} {m : MethodId} {args : Array Value} {below : List Frame} {meth : Method} {c : Code} {H : Heap} {locs : List Loc} {cells slots : Nat} {Q : State → Prop}
variable {cc : ByteArray} {pc nL idx : Nat} {ls : Array Slot} {rest : List Value} {lv : List (Nat × Value)} {A : Nat → Prop} {H0 : Heap} {own : String}
theorem sup_X3_is {D : va_G} {ct : Nat → ClassId} {q kd : Nat} {num : Int32} {a1 : Int32} {z : Int32} (S : CallFix p m c cc nL s args lw_all own) (hl : lv_has ls nL lv) (hK : va_K D clA (tysG ct) s) (hH : GH D A [q] H0 (WR kd num q) H locs) (hkd : kd < 6) (hlk : Cond.methodLink own idx yX3_is ∈ lw_all) (hsup : Cond.superclass own RX3 ∈ lw_all) (hv : X3_is a1 = some z) (hR : 2 ≤ R.frames ∧ 42 ≤ R.locals) (hsum : (rest.map fun v => v.category).sum ≤ 8) (hdg : decode cc pc = .ok (.invokespecial idx, 3)) (hf : cells ≤ R.cells ∧ slots ≤ R.slots) (k : W p l e R s m args below meth c H locs cells slots Q (F0 m (pc + 3) ls (.int z :: rest))) : W p l e R s m args below meth c H locs cells slots Q (F0 m pc ls (.int a1 :: .ref q :: rest)) :=
  t_super (av := [.int a1]) S hl hK hH hkd (met_X3_is l D ct q H.size kd num hkd a1 z hv) (lw_SU hlk q1352 hsup q869 q82 q870) rfl rfl ⟨by decide, by show (parseMethodDescriptor yX3_is.desc).map (fun d => d.parameters.length) = some 1; decide +kernel⟩ hR rfl hsum hdg hf k
end CR_X3_is
/-! CapCouncil$Old.kind ()I -/
def X3_kind : Option Int32 :=
  some (1 : Int32)
def rm_X3_kind : Room := { frames := 0, cells := 0, slots := 0, locals := 0 }
set_option maxHeartbeats 4000000 in
set_option maxRecDepth 100000 in
theorem met_X3_kind (l : Launch) (D : va_G) (ct : Nat → ClassId) (q : Nat) (sz : Nat) (kd : Nat) (num : Int32) (hkd : kd < 6) (z : Int32) (hd : X3_kind = some z) : Met l yX3_kind (ws_ yX3_kind cX3_kind 1 (some .int)) rm_X3_kind (GPre gE_0 D ct [q] (WR kd num q) sz [.ref q]) (vp_Si (fun r => r = z)) 0 0 (fun _ => False) := by
  refine g_met (cc := cX3_kind) (maxL := 1) (ret := (some .int)) (by decide) (Nat.le_of_ble_eq_true rfl) ?_
  intro p e U m args below meth c ls S hr hlk hK hH hE hsz hl
  have S : CallFix p m c cX3_kind 1 U args lw_all RX3 := S
  have hx := S.1
  have hb := S.2.1
  have hl : lv_has ls 1 [(0, .ref q)] := hl
  unfold X3_kind at hd
  refine lv_iconst (v := (1 : Int32)) (pc := 0) hx hb dX3_kind_0 (by decide) ?_
  exact r_iret hd S hr hlk dX3_kind_1
section CR_X3_kind
variable {p : Program} {l : Launch} {e : Env} {R : Room} {s : State} {m : MethodId} {args : Array Value} {below : List Frame} {meth : Method} {c : Code} {H : Heap} {locs : List Loc} {cells slots : Nat} {Q : State → Prop}
variable {cc : ByteArray} {pc nL idx : Nat} {ls : Array Slot} {rest : List Value} {lv : List (Nat × Value)} {A : Nat → Prop} {H0 : Heap} {own : String}
theorem sup_X3_kind {D : va_G} {ct : Nat → ClassId} {q kd : Nat} {num : Int32} {z : Int32} (S : CallFix p m c cc nL s args lw_all own) (hl : lv_has ls nL lv) (hK : va_K D clA (tysG ct) s) (hH : GH D A [q] H0 (WR kd num q) H locs) (hkd : kd < 6) (hlk : Cond.methodLink own idx yX3_kind ∈ lw_all) (hsup : Cond.superclass own RX3 ∈ lw_all) (hv : X3_kind = some z) (hR : 1 ≤ R.frames ∧ 20 ≤ R.locals) (hsum : (rest.map fun v => v.category).sum ≤ 8) (hdg : decode cc pc = .ok (.invokespecial idx, 3)) (hf : cells ≤ R.cells ∧ slots ≤ R.slots) (k : W p l e R s m args below meth c H locs cells slots Q (F0 m (pc + 3) ls (.int z :: rest))) : W p l e R s m args below meth c H locs cells slots Q (F0 m pc ls (.ref q :: rest)) :=
  t_super (av := []) S hl hK hH hkd (met_X3_kind l D ct q H.size kd num hkd z hv) (lw_SU hlk q1346 hsup q500 q82 q501) rfl rfl ⟨by decide, by show (parseMethodDescriptor yX3_kind.desc).map (fun d => d.parameters.length) = some 0; decide +kernel⟩ hR rfl hsum hdg hf k
end CR_X3_kind
/-! CapCouncil$Arc.has (IIII)Z -/
def X4_has (a1 : Int32) (a2 : Int32) (a3 : Int32) (a4 : Int32) : Option Int32 :=
  (X2_has a1 a2 a3 a4).bind fun v1 =>
  if v1 = 0 then
    (some (0 : Int32))
  else
    (if a2 < 0 then
      (some (0 : Int32))
    else
      (some (1 : Int32)))
def rm_X4_has : Room := { frames := 1, cells := 0, slots := 0, locals := 24 }
set_option maxHeartbeats 4000000 in
set_option maxRecDepth 100000 in
theorem met_X4_has (l : Launch) (D : va_G) (ct : Nat → ClassId) (q : Nat) (sz : Nat) (kd : Nat) (num : Int32) (hkd : kd < 6) (a1 : Int32) (a2 : Int32) (a3 : Int32) (a4 : Int32) (z : Int32) (hd : X4_has a1 a2 a3 a4 = some z) : Met l yX4_has (ws_ yX4_has cX4_has 5 (some .boolean)) rm_X4_has (GPre gE_0 D ct [q] (WR kd num q) sz [.ref q, .int a1, .int a2, .int a3, .int a4]) (vp_Si (fun r => r = z)) 0 0 (fun _ => False) := by
  refine g_met (cc := cX4_has) (maxL := 5) (ret := (some .boolean)) (by decide) (Nat.le_of_ble_eq_true rfl) ?_
  intro p e U m args below meth c ls S hr hlk hK hH hE hsz hl
  have S : CallFix p m c cX4_has 5 U args lw_all RX4 := S
  have hx := S.1
  have hb := S.2.1
  have hl : lv_has ls 5 [(0, .ref q), (1, .int a1), (2, .int a2), (3, .int a3), (4, .int a4)] := hl
  unfold X4_has at hd
  refine lv_aload_n (pc := 0) hx hb dX4_has_0 rfl (lv_at hl 0 rfl) ?_
  refine lv_iload_n (pc := 1) hx hb dX4_has_1 rfl (lv_at hl 1 rfl) ?_
  refine lv_iload_n (pc := 2) hx hb dX4_has_2 rfl (lv_at hl 2 rfl) ?_
  refine lv_iload_n (pc := 3) hx hb dX4_has_3 rfl (lv_at hl 3 rfl) ?_
  refine lv_iload (pc := 4) hx hb dX4_has_4 (lv_at hl 4 rfl) ?_
  obtain ⟨v1, hv1, hd⟩ := bs_bd hd
  refine sup_X2_has (pc := 6) S hl hK hH hkd q543 q448 hv1 ⟨Nat.le_of_ble_eq_true rfl, Nat.le_of_ble_eq_true rfl⟩ (Nat.le_of_ble_eq_true rfl) dX4_has_6 ⟨Nat.zero_le _, Nat.zero_le _⟩ ?_
  refine lv_if_eq (pc := 9) (tgt := 20) hx hb dX4_has_9 (by decide) (fun c2 => ?_) (fun c2 => ?_)
  · have hd := if_t c2 hd
    refine lv_iconst (v := (0 : Int32)) (pc := 20) hx hb dX4_has_20 (by decide) ?_
    exact r_zret rfl hd S hr hlk dX4_has_21
  · have hd := if_n c2 hd
    refine lv_iload_n (pc := 12) hx hb dX4_has_12 rfl (lv_at hl 2 rfl) ?_
    refine lv_if_lt (pc := 13) (tgt := 20) hx hb dX4_has_13 (by decide) (fun c3 => ?_) (fun c3 => ?_)
    · have hd := if_t c3 hd
      refine lv_iconst (v := (0 : Int32)) (pc := 20) hx hb dX4_has_20 (by decide) ?_
      exact r_zret rfl hd S hr hlk dX4_has_21
    · have hd := if_n c3 hd
      refine lv_iconst (v := (1 : Int32)) (pc := 16) hx hb dX4_has_16 (by decide) ?_
      refine lv_goto (pc := 17) (tgt := 21) hx hb dX4_has_17 (by decide) ?_
      exact r_zret rfl hd S hr hlk dX4_has_21
section CR_X4_has
variable {p : Program} {l : Launch} {e : Env} {R : Room} {s : State} {m : MethodId} {args : Array Value} {below : List Frame} {meth : Method} {c : Code} {H : Heap} {locs : List Loc} {cells slots : Nat} {Q : State → Prop}
variable {cc : ByteArray} {pc nL idx : Nat} {ls : Array Slot} {rest : List Value} {lv : List (Nat × Value)} {A : Nat → Prop} {H0 : Heap} {own : String}
theorem sup_X4_has {D : va_G} {ct : Nat → ClassId} {q kd : Nat} {num : Int32} {a1 : Int32} {a2 : Int32} {a3 : Int32} {a4 : Int32} {z : Int32} (S : CallFix p m c cc nL s args lw_all own) (hl : lv_has ls nL lv) (hK : va_K D clA (tysG ct) s) (hH : GH D A [q] H0 (WR kd num q) H locs) (hkd : kd < 6) (hlk : Cond.methodLink own idx yX4_has ∈ lw_all) (hsup : Cond.superclass own RX4 ∈ lw_all) (hv : X4_has a1 a2 a3 a4 = some z) (hR : 2 ≤ R.frames ∧ 48 ≤ R.locals) (hsum : (rest.map fun v => v.category).sum ≤ 8) (hdg : decode cc pc = .ok (.invokespecial idx, 3)) (hf : cells ≤ R.cells ∧ slots ≤ R.slots) (k : W p l e R s m args below meth c H locs cells slots Q (F0 m (pc + 3) ls (.int z :: rest))) : W p l e R s m args below meth c H locs cells slots Q (F0 m pc ls (.int a4 :: .int a3 :: .int a2 :: .int a1 :: .ref q :: rest)) :=
  t_super (av := [.int a1, .int a2, .int a3, .int a4]) S hl hK hH hkd (met_X4_has l D ct q H.size kd num hkd a1 a2 a3 a4 z hv) (lw_SU hlk q1345 hsup q541 q83 q542) rfl rfl ⟨by decide, by show (parseMethodDescriptor yX4_has.desc).map (fun d => d.parameters.length) = some 4; decide +kernel⟩ hR rfl hsum hdg hf k
end CR_X4_has
/-! CapCouncil$Arc.is (I)Z -/
def X4_is (a1 : Int32) : Option Int32 :=
  if a1 = (2 : Int32) then
    (some (1 : Int32))
  else
    ((X2_is a1).bind fun v2 =>
    if v2 = 0 then
      (some (0 : Int32))
    else
      (some (1 : Int32)))
def rm_X4_is : Room := { frames := 1, cells := 0, slots := 0, locals := 21 }
set_option maxHeartbeats 4000000 in
set_option maxRecDepth 100000 in
theorem met_X4_is (l : Launch) (D : va_G) (ct : Nat → ClassId) (q : Nat) (sz : Nat) (kd : Nat) (num : Int32) (hkd : kd < 6) (a1 : Int32) (z : Int32) (hd : X4_is a1 = some z) : Met l yX4_is (ws_ yX4_is cX4_is 2 (some .boolean)) rm_X4_is (GPre gE_0 D ct [q] (WR kd num q) sz [.ref q, .int a1]) (vp_Si (fun r => r = z)) 0 0 (fun _ => False) := by
  refine g_met (cc := cX4_is) (maxL := 2) (ret := (some .boolean)) (by decide) (Nat.le_of_ble_eq_true rfl) ?_
  intro p e U m args below meth c ls S hr hlk hK hH hE hsz hl
  have S : CallFix p m c cX4_is 2 U args lw_all RX4 := S
  have hx := S.1
  have hb := S.2.1
  have hl : lv_has ls 2 [(0, .ref q), (1, .int a1)] := hl
  unfold X4_is at hd
  refine lv_iload_n (pc := 0) hx hb dX4_is_0 rfl (lv_at hl 1 rfl) ?_
  refine lv_iconst (v := (2 : Int32)) (pc := 1) hx hb dX4_is_1 (by decide) ?_
  refine lv_icmp_eq (pc := 2) (tgt := 13) hx hb dX4_is_2 (by decide) (fun c1 => ?_) (fun c1 => ?_)
  · have hd := if_t c1 hd
    refine lv_iconst (v := (1 : Int32)) (pc := 13) hx hb dX4_is_13 (by decide) ?_
    refine lv_goto (pc := 14) (tgt := 18) hx hb dX4_is_14 (by decide) ?_
    exact r_zret rfl hd S hr hlk dX4_is_18
  · have hd := if_n c1 hd
    refine lv_aload_n (pc := 5) hx hb dX4_is_5 rfl (lv_at hl 0 rfl) ?_
    refine lv_iload_n (pc := 6) hx hb dX4_is_6 rfl (lv_at hl 1 rfl) ?_
    obtain ⟨v2, hv2, hd⟩ := bs_bd hd
    refine sup_X2_is (pc := 7) S hl hK hH hkd q863 q448 hv2 ⟨Nat.le_of_ble_eq_true rfl, Nat.le_of_ble_eq_true rfl⟩ (Nat.le_of_ble_eq_true rfl) dX4_is_7 ⟨Nat.zero_le _, Nat.zero_le _⟩ ?_
    refine lv_if_eq (pc := 10) (tgt := 17) hx hb dX4_is_10 (by decide) (fun c3 => ?_) (fun c3 => ?_)
    · have hd := if_t c3 hd
      refine lv_iconst (v := (0 : Int32)) (pc := 17) hx hb dX4_is_17 (by decide) ?_
      exact r_zret rfl hd S hr hlk dX4_is_18
    · have hd := if_n c3 hd
      refine lv_iconst (v := (1 : Int32)) (pc := 13) hx hb dX4_is_13 (by decide) ?_
      refine lv_goto (pc := 14) (tgt := 18) hx hb dX4_is_14 (by decide) ?_
      exact r_zret rfl hd S hr hlk dX4_is_18
section CR_X4_is
variable {p : Program} {l : Launch} {e : Env} {R : Room} {s : State} {m : MethodId} {args : Array Value} {below : List Frame} {meth : Method} {c : Code} {H : Heap} {locs : List Loc} {cells slots : Nat} {Q : State → Prop}
variable {cc : ByteArray} {pc nL idx : Nat} {ls : Array Slot} {rest : List Value} {lv : List (Nat × Value)} {A : Nat → Prop} {H0 : Heap} {own : String}
theorem sup_X4_is {D : va_G} {ct : Nat → ClassId} {q kd : Nat} {num : Int32} {a1 : Int32} {z : Int32} (S : CallFix p m c cc nL s args lw_all own) (hl : lv_has ls nL lv) (hK : va_K D clA (tysG ct) s) (hH : GH D A [q] H0 (WR kd num q) H locs) (hkd : kd < 6) (hlk : Cond.methodLink own idx yX4_is ∈ lw_all) (hsup : Cond.superclass own RX4 ∈ lw_all) (hv : X4_is a1 = some z) (hR : 2 ≤ R.frames ∧ 42 ≤ R.locals) (hsum : (rest.map fun v => v.category).sum ≤ 8) (hdg : decode cc pc = .ok (.invokespecial idx, 3)) (hf : cells ≤ R.cells ∧ slots ≤ R.slots) (k : W p l e R s m args below meth c H locs cells slots Q (F0 m (pc + 3) ls (.int z :: rest))) : W p l e R s m args below meth c H locs cells slots Q (F0 m pc ls (.int a1 :: .ref q :: rest)) :=
  t_super (av := [.int a1]) S hl hK hH hkd (met_X4_is l D ct q H.size kd num hkd a1 z hv) (lw_SU hlk q1353 hsup q861 q83 q862) rfl rfl ⟨by decide, by show (parseMethodDescriptor yX4_is.desc).map (fun d => d.parameters.length) = some 1; decide +kernel⟩ hR rfl hsum hdg hf k
end CR_X4_is
/-! CapCouncil$Arc.kind ()I -/
def X4_kind : Option Int32 :=
  some (2 : Int32)
def rm_X4_kind : Room := { frames := 0, cells := 0, slots := 0, locals := 0 }
set_option maxHeartbeats 4000000 in
set_option maxRecDepth 100000 in
theorem met_X4_kind (l : Launch) (D : va_G) (ct : Nat → ClassId) (q : Nat) (sz : Nat) (kd : Nat) (num : Int32) (hkd : kd < 6) (z : Int32) (hd : X4_kind = some z) : Met l yX4_kind (ws_ yX4_kind cX4_kind 1 (some .int)) rm_X4_kind (GPre gE_0 D ct [q] (WR kd num q) sz [.ref q]) (vp_Si (fun r => r = z)) 0 0 (fun _ => False) := by
  refine g_met (cc := cX4_kind) (maxL := 1) (ret := (some .int)) (by decide) (Nat.le_of_ble_eq_true rfl) ?_
  intro p e U m args below meth c ls S hr hlk hK hH hE hsz hl
  have S : CallFix p m c cX4_kind 1 U args lw_all RX4 := S
  have hx := S.1
  have hb := S.2.1
  have hl : lv_has ls 1 [(0, .ref q)] := hl
  unfold X4_kind at hd
  refine lv_iconst (v := (2 : Int32)) (pc := 0) hx hb dX4_kind_0 (by decide) ?_
  exact r_iret hd S hr hlk dX4_kind_1
section CR_X4_kind
variable {p : Program} {l : Launch} {e : Env} {R : Room} {s : State} {m : MethodId} {args : Array Value} {below : List Frame} {meth : Method} {c : Code} {H : Heap} {locs : List Loc} {cells slots : Nat} {Q : State → Prop}
variable {cc : ByteArray} {pc nL idx : Nat} {ls : Array Slot} {rest : List Value} {lv : List (Nat × Value)} {A : Nat → Prop} {H0 : Heap} {own : String}
theorem sup_X4_kind {D : va_G} {ct : Nat → ClassId} {q kd : Nat} {num : Int32} {z : Int32} (S : CallFix p m c cc nL s args lw_all own) (hl : lv_has ls nL lv) (hK : va_K D clA (tysG ct) s) (hH : GH D A [q] H0 (WR kd num q) H locs) (hkd : kd < 6) (hlk : Cond.methodLink own idx yX4_kind ∈ lw_all) (hsup : Cond.superclass own RX4 ∈ lw_all) (hv : X4_kind = some z) (hR : 1 ≤ R.frames ∧ 20 ≤ R.locals) (hsum : (rest.map fun v => v.category).sum ≤ 8) (hdg : decode cc pc = .ok (.invokespecial idx, 3)) (hf : cells ≤ R.cells ∧ slots ≤ R.slots) (k : W p l e R s m args below meth c H locs cells slots Q (F0 m (pc + 3) ls (.int z :: rest))) : W p l e R s m args below meth c H locs cells slots Q (F0 m pc ls (.ref q :: rest)) :=
  t_super (av := []) S hl hK hH hkd (met_X4_kind l D ct q H.size kd num hkd z hv) (lw_SU hlk q1349 hsup q494 q83 q495) rfl rfl ⟨by decide, by show (parseMethodDescriptor yX4_kind.desc).map (fun d => d.parameters.length) = some 0; decide +kernel⟩ hR rfl hsum hdg hf k
end CR_X4_kind
/-! CapCouncil$Puff.has (IIII)Z -/
def X5_has (a1 : Int32) (a2 : Int32) (a3 : Int32) (a4 : Int32) : Option Int32 :=
  if (a4 - a4 / (2 : Int32) * (2 : Int32)) = 0 then
    ((X2_has a1 a2 a3 a4).bind fun v2 =>
    if v2 = 0 then
      (some (0 : Int32))
    else
      (some (1 : Int32)))
  else
    (some (0 : Int32))
def rm_X5_has : Room := { frames := 1, cells := 0, slots := 0, locals := 24 }
set_option maxHeartbeats 4000000 in
set_option maxRecDepth 100000 in
theorem met_X5_has (l : Launch) (D : va_G) (ct : Nat → ClassId) (q : Nat) (sz : Nat) (kd : Nat) (num : Int32) (hkd : kd < 6) (a1 : Int32) (a2 : Int32) (a3 : Int32) (a4 : Int32) (z : Int32) (hd : X5_has a1 a2 a3 a4 = some z) : Met l yX5_has (ws_ yX5_has cX5_has 5 (some .boolean)) rm_X5_has (GPre gE_0 D ct [q] (WR kd num q) sz [.ref q, .int a1, .int a2, .int a3, .int a4]) (vp_Si (fun r => r = z)) 0 0 (fun _ => False) := by
  refine g_met (cc := cX5_has) (maxL := 5) (ret := (some .boolean)) (by decide) (Nat.le_of_ble_eq_true rfl) ?_
  intro p e U m args below meth c ls S hr hlk hK hH hE hsz hl
  have S : CallFix p m c cX5_has 5 U args lw_all RX5 := S
  have hx := S.1
  have hb := S.2.1
  have hl : lv_has ls 5 [(0, .ref q), (1, .int a1), (2, .int a2), (3, .int a3), (4, .int a4)] := hl
  unfold X5_has at hd
  refine lv_iload (pc := 0) hx hb dX5_has_0 (lv_at hl 4 rfl) ?_
  refine lv_iconst (v := (2 : Int32)) (pc := 2) hx hb dX5_has_2 (by decide) ?_
  refine lv_irem (pc := 3) hx hb dX5_has_3 (by decide) ?_
  refine lv_if_ne (pc := 4) (tgt := 23) hx hb dX5_has_4 (by decide) (fun c1 => ?_) (fun c1 => ?_)
  · have hd := if_n c1 hd
    refine lv_iconst (v := (0 : Int32)) (pc := 23) hx hb dX5_has_23 (by decide) ?_
    exact r_zret rfl hd S hr hlk dX5_has_24
  · have hd := if_t c1 hd
    refine lv_aload_n (pc := 7) hx hb dX5_has_7 rfl (lv_at hl 0 rfl) ?_
    refine lv_iload_n (pc := 8) hx hb dX5_has_8 rfl (lv_at hl 1 rfl) ?_
    refine lv_iload_n (pc := 9) hx hb dX5_has_9 rfl (lv_at hl 2 rfl) ?_
    refine lv_iload_n (pc := 10) hx hb dX5_has_10 rfl (lv_at hl 3 rfl) ?_
    refine lv_iload (pc := 11) hx hb dX5_has_11 (lv_at hl 4 rfl) ?_
    obtain ⟨v2, hv2, hd⟩ := bs_bd hd
    refine sup_X2_has (pc := 13) S hl hK hH hkd q556 q456 hv2 ⟨Nat.le_of_ble_eq_true rfl, Nat.le_of_ble_eq_true rfl⟩ (Nat.le_of_ble_eq_true rfl) dX5_has_13 ⟨Nat.zero_le _, Nat.zero_le _⟩ ?_
    refine lv_if_eq (pc := 16) (tgt := 23) hx hb dX5_has_16 (by decide) (fun c3 => ?_) (fun c3 => ?_)
    · have hd := if_t c3 hd
      refine lv_iconst (v := (0 : Int32)) (pc := 23) hx hb dX5_has_23 (by decide) ?_
      exact r_zret rfl hd S hr hlk dX5_has_24
    · have hd := if_n c3 hd
      refine lv_iconst (v := (1 : Int32)) (pc := 19) hx hb dX5_has_19 (by decide) ?_
      refine lv_goto (pc := 20) (tgt := 24) hx hb dX5_has_20 (by decide) ?_
      exact r_zret rfl hd S hr hlk dX5_has_24
section CR_X5_has
variable {p : Program} {l : Launch} {e : Env} {R : Room} {s : State} {m : MethodId} {args : Array Value} {below : List Frame} {meth : Method} {c : Code} {H : Heap} {locs : List Loc} {cells slots : Nat} {Q : State → Prop}
variable {cc : ByteArray} {pc nL idx : Nat} {ls : Array Slot} {rest : List Value} {lv : List (Nat × Value)} {A : Nat → Prop} {H0 : Heap} {own : String}
end CR_X5_has
/-! CapCouncil$Puff.is (I)Z -/
def X5_is (a1 : Int32) : Option Int32 :=
  if a1 = (3 : Int32) then
    (some (1 : Int32))
  else
    ((X2_is a1).bind fun v2 =>
    if v2 = 0 then
      (some (0 : Int32))
    else
      (some (1 : Int32)))
def rm_X5_is : Room := { frames := 1, cells := 0, slots := 0, locals := 21 }
set_option maxHeartbeats 4000000 in
set_option maxRecDepth 100000 in
theorem met_X5_is (l : Launch) (D : va_G) (ct : Nat → ClassId) (q : Nat) (sz : Nat) (kd : Nat) (num : Int32) (hkd : kd < 6) (a1 : Int32) (z : Int32) (hd : X5_is a1 = some z) : Met l yX5_is (ws_ yX5_is cX5_is 2 (some .boolean)) rm_X5_is (GPre gE_0 D ct [q] (WR kd num q) sz [.ref q, .int a1]) (vp_Si (fun r => r = z)) 0 0 (fun _ => False) := by
  refine g_met (cc := cX5_is) (maxL := 2) (ret := (some .boolean)) (by decide) (Nat.le_of_ble_eq_true rfl) ?_
  intro p e U m args below meth c ls S hr hlk hK hH hE hsz hl
  have S : CallFix p m c cX5_is 2 U args lw_all RX5 := S
  have hx := S.1
  have hb := S.2.1
  have hl : lv_has ls 2 [(0, .ref q), (1, .int a1)] := hl
  unfold X5_is at hd
  refine lv_iload_n (pc := 0) hx hb dX5_is_0 rfl (lv_at hl 1 rfl) ?_
  refine lv_iconst (v := (3 : Int32)) (pc := 1) hx hb dX5_is_1 (by decide) ?_
  refine lv_icmp_eq (pc := 2) (tgt := 13) hx hb dX5_is_2 (by decide) (fun c1 => ?_) (fun c1 => ?_)
  · have hd := if_t c1 hd
    refine lv_iconst (v := (1 : Int32)) (pc := 13) hx hb dX5_is_13 (by decide) ?_
    refine lv_goto (pc := 14) (tgt := 18) hx hb dX5_is_14 (by decide) ?_
    exact r_zret rfl hd S hr hlk dX5_is_18
  · have hd := if_n c1 hd
    refine lv_aload_n (pc := 5) hx hb dX5_is_5 rfl (lv_at hl 0 rfl) ?_
    refine lv_iload_n (pc := 6) hx hb dX5_is_6 rfl (lv_at hl 1 rfl) ?_
    obtain ⟨v2, hv2, hd⟩ := bs_bd hd
    refine sup_X2_is (pc := 7) S hl hK hH hkd q876 q456 hv2 ⟨Nat.le_of_ble_eq_true rfl, Nat.le_of_ble_eq_true rfl⟩ (Nat.le_of_ble_eq_true rfl) dX5_is_7 ⟨Nat.zero_le _, Nat.zero_le _⟩ ?_
    refine lv_if_eq (pc := 10) (tgt := 17) hx hb dX5_is_10 (by decide) (fun c3 => ?_) (fun c3 => ?_)
    · have hd := if_t c3 hd
      refine lv_iconst (v := (0 : Int32)) (pc := 17) hx hb dX5_is_17 (by decide) ?_
      exact r_zret rfl hd S hr hlk dX5_is_18
    · have hd := if_n c3 hd
      refine lv_iconst (v := (1 : Int32)) (pc := 13) hx hb dX5_is_13 (by decide) ?_
      refine lv_goto (pc := 14) (tgt := 18) hx hb dX5_is_14 (by decide) ?_
      exact r_zret rfl hd S hr hlk dX5_is_18
section CR_X5_is
variable {p : Program} {l : Launch} {e : Env} {R : Room} {s : State} {m : MethodId} {args : Array Value} {below : List Frame} {meth : Method} {c : Code} {H : Heap} {locs : List Loc} {cells slots : Nat} {Q : State → Prop}
variable {cc : ByteArray} {pc nL idx : Nat} {ls : Array Slot} {rest : List Value} {lv : List (Nat × Value)} {A : Nat → Prop} {H0 : Heap} {own : String}
end CR_X5_is
/-! CapCouncil$Puff.kind ()I -/
def X5_kind : Option Int32 :=
  some (3 : Int32)
def rm_X5_kind : Room := { frames := 0, cells := 0, slots := 0, locals := 0 }
set_option maxHeartbeats 4000000 in
set_option maxRecDepth 100000 in
theorem met_X5_kind (l : Launch) (D : va_G) (ct : Nat → ClassId) (q : Nat) (sz : Nat) (kd : Nat) (num : Int32) (hkd : kd < 6) (z : Int32) (hd : X5_kind = some z) : Met l yX5_kind (ws_ yX5_kind cX5_kind 1 (some .int)) rm_X5_kind (GPre gE_0 D ct [q] (WR kd num q) sz [.ref q]) (vp_Si (fun r => r = z)) 0 0 (fun _ => False) := by
  refine g_met (cc := cX5_kind) (maxL := 1) (ret := (some .int)) (by decide) (Nat.le_of_ble_eq_true rfl) ?_
  intro p e U m args below meth c ls S hr hlk hK hH hE hsz hl
  have S : CallFix p m c cX5_kind 1 U args lw_all RX5 := S
  have hx := S.1
  have hb := S.2.1
  have hl : lv_has ls 1 [(0, .ref q)] := hl
  unfold X5_kind at hd
  refine lv_iconst (v := (3 : Int32)) (pc := 0) hx hb dX5_kind_0 (by decide) ?_
  exact r_iret hd S hr hlk dX5_kind_1
section CR_X5_kind
variable {p : Program} {l : Launch} {e : Env} {R : Room} {s : State} {m : MethodId} {args : Array Value} {below : List Frame} {meth : Method} {c : Code} {H : Heap} {locs : List Loc} {cells slots : Nat} {Q : State → Prop}
variable {cc : ByteArray} {pc nL idx : Nat} {ls : Array Slot} {rest : List Value} {lv : List (Nat × Value)} {A : Nat → Prop} {H0 : Heap} {own : String}
end CR_X5_kind
/-! CapCouncil$Death.has (IIII)Z -/
def X6_has (a1 : Int32) (a2 : Int32) (a3 : Int32) (a4 : Int32) : Option Int32 :=
  (X3_has a1 a2 a3 a4).bind fun v1 =>
  if v1 = 0 then
    (some (0 : Int32))
  else
    (if a3 ≤ a1 then
      (some (0 : Int32))
    else
      (some (1 : Int32)))
def rm_X6_has : Room := { frames := 2, cells := 0, slots := 0, locals := 48 }
set_option maxHeartbeats 4000000 in
set_option maxRecDepth 100000 in
theorem met_X6_has (l : Launch) (D : va_G) (ct : Nat → ClassId) (q : Nat) (sz : Nat) (kd : Nat) (num : Int32) (hkd : kd < 6) (a1 : Int32) (a2 : Int32) (a3 : Int32) (a4 : Int32) (z : Int32) (hd : X6_has a1 a2 a3 a4 = some z) : Met l yX6_has (ws_ yX6_has cX6_has 5 (some .boolean)) rm_X6_has (GPre gE_0 D ct [q] (WR kd num q) sz [.ref q, .int a1, .int a2, .int a3, .int a4]) (vp_Si (fun r => r = z)) 0 0 (fun _ => False) := by
  refine g_met (cc := cX6_has) (maxL := 5) (ret := (some .boolean)) (by decide) (Nat.le_of_ble_eq_true rfl) ?_
  intro p e U m args below meth c ls S hr hlk hK hH hE hsz hl
  have S : CallFix p m c cX6_has 5 U args lw_all RX6 := S
  have hx := S.1
  have hb := S.2.1
  have hl : lv_has ls 5 [(0, .ref q), (1, .int a1), (2, .int a2), (3, .int a3), (4, .int a4)] := hl
  unfold X6_has at hd
  refine lv_aload_n (pc := 0) hx hb dX6_has_0 rfl (lv_at hl 0 rfl) ?_
  refine lv_iload_n (pc := 1) hx hb dX6_has_1 rfl (lv_at hl 1 rfl) ?_
  refine lv_iload_n (pc := 2) hx hb dX6_has_2 rfl (lv_at hl 2 rfl) ?_
  refine lv_iload_n (pc := 3) hx hb dX6_has_3 rfl (lv_at hl 3 rfl) ?_
  refine lv_iload (pc := 4) hx hb dX6_has_4 (lv_at hl 4 rfl) ?_
  obtain ⟨v1, hv1, hd⟩ := bs_bd hd
  refine sup_X3_has (pc := 6) S hl hK hH hkd q548 q464 hv1 ⟨Nat.le_of_ble_eq_true rfl, Nat.le_of_ble_eq_true rfl⟩ (Nat.le_of_ble_eq_true rfl) dX6_has_6 ⟨Nat.zero_le _, Nat.zero_le _⟩ ?_
  refine lv_if_eq (pc := 9) (tgt := 21) hx hb dX6_has_9 (by decide) (fun c2 => ?_) (fun c2 => ?_)
  · have hd := if_t c2 hd
    refine lv_iconst (v := (0 : Int32)) (pc := 21) hx hb dX6_has_21 (by decide) ?_
    exact r_zret rfl hd S hr hlk dX6_has_22
  · have hd := if_n c2 hd
    refine lv_iload_n (pc := 12) hx hb dX6_has_12 rfl (lv_at hl 1 rfl) ?_
    refine lv_iload_n (pc := 13) hx hb dX6_has_13 rfl (lv_at hl 3 rfl) ?_
    refine lv_icmp_ge (pc := 14) (tgt := 21) hx hb dX6_has_14 (by decide) (fun c3 => ?_) (fun c3 => ?_)
    · have hd := if_t c3 hd
      refine lv_iconst (v := (0 : Int32)) (pc := 21) hx hb dX6_has_21 (by decide) ?_
      exact r_zret rfl hd S hr hlk dX6_has_22
    · have hd := if_n c3 hd
      refine lv_iconst (v := (1 : Int32)) (pc := 17) hx hb dX6_has_17 (by decide) ?_
      refine lv_goto (pc := 18) (tgt := 22) hx hb dX6_has_18 (by decide) ?_
      exact r_zret rfl hd S hr hlk dX6_has_22
section CR_X6_has
variable {p : Program} {l : Launch} {e : Env} {R : Room} {s : State} {m : MethodId} {args : Array Value} {below : List Frame} {meth : Method} {c : Code} {H : Heap} {locs : List Loc} {cells slots : Nat} {Q : State → Prop}
variable {cc : ByteArray} {pc nL idx : Nat} {ls : Array Slot} {rest : List Value} {lv : List (Nat × Value)} {A : Nat → Prop} {H0 : Heap} {own : String}
end CR_X6_has
/-! CapCouncil$Death.is (I)Z -/
def X6_is (a1 : Int32) : Option Int32 :=
  if a1 = (4 : Int32) then
    (some (1 : Int32))
  else
    ((X3_is a1).bind fun v2 =>
    if v2 = 0 then
      (some (0 : Int32))
    else
      (some (1 : Int32)))
def rm_X6_is : Room := { frames := 2, cells := 0, slots := 0, locals := 42 }
set_option maxHeartbeats 4000000 in
set_option maxRecDepth 100000 in
theorem met_X6_is (l : Launch) (D : va_G) (ct : Nat → ClassId) (q : Nat) (sz : Nat) (kd : Nat) (num : Int32) (hkd : kd < 6) (a1 : Int32) (z : Int32) (hd : X6_is a1 = some z) : Met l yX6_is (ws_ yX6_is cX6_is 2 (some .boolean)) rm_X6_is (GPre gE_0 D ct [q] (WR kd num q) sz [.ref q, .int a1]) (vp_Si (fun r => r = z)) 0 0 (fun _ => False) := by
  refine g_met (cc := cX6_is) (maxL := 2) (ret := (some .boolean)) (by decide) (Nat.le_of_ble_eq_true rfl) ?_
  intro p e U m args below meth c ls S hr hlk hK hH hE hsz hl
  have S : CallFix p m c cX6_is 2 U args lw_all RX6 := S
  have hx := S.1
  have hb := S.2.1
  have hl : lv_has ls 2 [(0, .ref q), (1, .int a1)] := hl
  unfold X6_is at hd
  refine lv_iload_n (pc := 0) hx hb dX6_is_0 rfl (lv_at hl 1 rfl) ?_
  refine lv_iconst (v := (4 : Int32)) (pc := 1) hx hb dX6_is_1 (by decide) ?_
  refine lv_icmp_eq (pc := 2) (tgt := 13) hx hb dX6_is_2 (by decide) (fun c1 => ?_) (fun c1 => ?_)
  · have hd := if_t c1 hd
    refine lv_iconst (v := (1 : Int32)) (pc := 13) hx hb dX6_is_13 (by decide) ?_
    refine lv_goto (pc := 14) (tgt := 18) hx hb dX6_is_14 (by decide) ?_
    exact r_zret rfl hd S hr hlk dX6_is_18
  · have hd := if_n c1 hd
    refine lv_aload_n (pc := 5) hx hb dX6_is_5 rfl (lv_at hl 0 rfl) ?_
    refine lv_iload_n (pc := 6) hx hb dX6_is_6 rfl (lv_at hl 1 rfl) ?_
    obtain ⟨v2, hv2, hd⟩ := bs_bd hd
    refine sup_X3_is (pc := 7) S hl hK hH hkd q868 q464 hv2 ⟨Nat.le_of_ble_eq_true rfl, Nat.le_of_ble_eq_true rfl⟩ (Nat.le_of_ble_eq_true rfl) dX6_is_7 ⟨Nat.zero_le _, Nat.zero_le _⟩ ?_
    refine lv_if_eq (pc := 10) (tgt := 17) hx hb dX6_is_10 (by decide) (fun c3 => ?_) (fun c3 => ?_)
    · have hd := if_t c3 hd
      refine lv_iconst (v := (0 : Int32)) (pc := 17) hx hb dX6_is_17 (by decide) ?_
      exact r_zret rfl hd S hr hlk dX6_is_18
    · have hd := if_n c3 hd
      refine lv_iconst (v := (1 : Int32)) (pc := 13) hx hb dX6_is_13 (by decide) ?_
      refine lv_goto (pc := 14) (tgt := 18) hx hb dX6_is_14 (by decide) ?_
      exact r_zret rfl hd S hr hlk dX6_is_18
section CR_X6_is
variable {p : Program} {l : Launch} {e : Env} {R : Room} {s : State} {m : MethodId} {args : Array Value} {below : List Frame} {meth : Method} {c : Code} {H : Heap} {locs : List Loc} {cells slots : Nat} {Q : State → Prop}
variable {cc : ByteArray} {pc nL idx : Nat} {ls : Array Slot} {rest : List Value} {lv : List (Nat × Value)} {A : Nat → Prop} {H0 : Heap} {own : String}
end CR_X6_is
/-! CapCouncil$Death.kind ()I -/
def X6_kind : Option Int32 :=
  some (4 : Int32)
def rm_X6_kind : Room := { frames := 0, cells := 0, slots := 0, locals := 0 }
set_option maxHeartbeats 4000000 in
set_option maxRecDepth 100000 in
theorem met_X6_kind (l : Launch) (D : va_G) (ct : Nat → ClassId) (q : Nat) (sz : Nat) (kd : Nat) (num : Int32) (hkd : kd < 6) (z : Int32) (hd : X6_kind = some z) : Met l yX6_kind (ws_ yX6_kind cX6_kind 1 (some .int)) rm_X6_kind (GPre gE_0 D ct [q] (WR kd num q) sz [.ref q]) (vp_Si (fun r => r = z)) 0 0 (fun _ => False) := by
  refine g_met (cc := cX6_kind) (maxL := 1) (ret := (some .int)) (by decide) (Nat.le_of_ble_eq_true rfl) ?_
  intro p e U m args below meth c ls S hr hlk hK hH hE hsz hl
  have S : CallFix p m c cX6_kind 1 U args lw_all RX6 := S
  have hx := S.1
  have hb := S.2.1
  have hl : lv_has ls 1 [(0, .ref q)] := hl
  unfold X6_kind at hd
  refine lv_iconst (v := (4 : Int32)) (pc := 0) hx hb dX6_kind_0 (by decide) ?_
  exact r_iret hd S hr hlk dX6_kind_1
section CR_X6_kind
variable {p : Program} {l : Launch} {e : Env} {R : Room} {s : State} {m : MethodId} {args : Array Value} {below : List Frame} {meth : Method} {c : Code} {H : Heap} {locs : List Loc} {cells slots : Nat} {Q : State → Prop}
variable {cc : ByteArray} {pc nL idx : Nat} {ls : Array Slot} {rest : List Value} {lv : List (Nat × Value)} {A : Nat → Prop} {H0 : Heap} {own : String}
end CR_X6_kind
/-! CapCouncil$Whole.has (IIII)Z -/
def X7_has (a1 : Int32) (a2 : Int32) (a3 : Int32) (a4 : Int32) : Option Int32 :=
  (X4_has a1 a2 a3 a4).bind fun v1 =>
  if v1 = 0 then
    (if 0 ≤ a2 then
      (some (0 : Int32))
    else
      (if (a3 / (2 : Int32)) ≤ a1 then
        (some (0 : Int32))
      else
        (some (1 : Int32))))
  else
    (some (1 : Int32))
def rm_X7_has : Room := { frames := 2, cells := 0, slots := 0, locals := 48 }
set_option maxHeartbeats 4000000 in
set_option maxRecDepth 100000 in
theorem met_X7_has (l : Launch) (D : va_G) (ct : Nat → ClassId) (q : Nat) (sz : Nat) (kd : Nat) (num : Int32) (hkd : kd < 6) (a1 : Int32) (a2 : Int32) (a3 : Int32) (a4 : Int32) (z : Int32) (hd : X7_has a1 a2 a3 a4 = some z) : Met l yX7_has (ws_ yX7_has cX7_has 5 (some .boolean)) rm_X7_has (GPre gE_0 D ct [q] (WR kd num q) sz [.ref q, .int a1, .int a2, .int a3, .int a4]) (vp_Si (fun r => r = z)) 0 0 (fun _ => False) := by
  refine g_met (cc := cX7_has) (maxL := 5) (ret := (some .boolean)) (by decide) (Nat.le_of_ble_eq_true rfl) ?_
  intro p e U m args below meth c ls S hr hlk hK hH hE hsz hl
  have S : CallFix p m c cX7_has 5 U args lw_all RX7 := S
  have hx := S.1
  have hb := S.2.1
  have hl : lv_has ls 5 [(0, .ref q), (1, .int a1), (2, .int a2), (3, .int a3), (4, .int a4)] := hl
  unfold X7_has at hd
  refine lv_aload_n (pc := 0) hx hb dX7_has_0 rfl (lv_at hl 0 rfl) ?_
  refine lv_iload_n (pc := 1) hx hb dX7_has_1 rfl (lv_at hl 1 rfl) ?_
  refine lv_iload_n (pc := 2) hx hb dX7_has_2 rfl (lv_at hl 2 rfl) ?_
  refine lv_iload_n (pc := 3) hx hb dX7_has_3 rfl (lv_at hl 3 rfl) ?_
  refine lv_iload (pc := 4) hx hb dX7_has_4 (lv_at hl 4 rfl) ?_
  obtain ⟨v1, hv1, hd⟩ := bs_bd hd
  refine sup_X4_has (pc := 6) S hl hK hH hkd q560 q472 hv1 ⟨Nat.le_of_ble_eq_true rfl, Nat.le_of_ble_eq_true rfl⟩ (Nat.le_of_ble_eq_true rfl) dX7_has_6 ⟨Nat.zero_le _, Nat.zero_le _⟩ ?_
  refine lv_if_ne (pc := 9) (tgt := 23) hx hb dX7_has_9 (by decide) (fun c2 => ?_) (fun c2 => ?_)
  · have hd := if_n c2 hd
    refine lv_iconst (v := (1 : Int32)) (pc := 23) hx hb dX7_has_23 (by decide) ?_
    refine lv_goto (pc := 24) (tgt := 28) hx hb dX7_has_24 (by decide) ?_
    exact r_zret rfl hd S hr hlk dX7_has_28
  · have hd := if_t c2 hd
    refine lv_iload_n (pc := 12) hx hb dX7_has_12 rfl (lv_at hl 2 rfl) ?_
    refine lv_if_ge (pc := 13) (tgt := 27) hx hb dX7_has_13 (by decide) (fun c3 => ?_) (fun c3 => ?_)
    · have hd := if_t c3 hd
      refine lv_iconst (v := (0 : Int32)) (pc := 27) hx hb dX7_has_27 (by decide) ?_
      exact r_zret rfl hd S hr hlk dX7_has_28
    · have hd := if_n c3 hd
      refine lv_iload_n (pc := 16) hx hb dX7_has_16 rfl (lv_at hl 1 rfl) ?_
      refine lv_iload_n (pc := 17) hx hb dX7_has_17 rfl (lv_at hl 3 rfl) ?_
      refine lv_iconst (v := (2 : Int32)) (pc := 18) hx hb dX7_has_18 (by decide) ?_
      refine lv_idiv (pc := 19) hx hb dX7_has_19 (by decide) ?_
      refine lv_icmp_ge (pc := 20) (tgt := 27) hx hb dX7_has_20 (by decide) (fun c4 => ?_) (fun c4 => ?_)
      · have hd := if_t c4 hd
        refine lv_iconst (v := (0 : Int32)) (pc := 27) hx hb dX7_has_27 (by decide) ?_
        exact r_zret rfl hd S hr hlk dX7_has_28
      · have hd := if_n c4 hd
        refine lv_iconst (v := (1 : Int32)) (pc := 23) hx hb dX7_has_23 (by decide) ?_
        refine lv_goto (pc := 24) (tgt := 28) hx hb dX7_has_24 (by decide) ?_
        exact r_zret rfl hd S hr hlk dX7_has_28
section CR_X7_has
variable {p : Program} {l : Launch} {e : Env} {R : Room} {s : State} {m : MethodId} {args : Array Value} {below : List Frame} {meth : Method} {c : Code} {H : Heap} {locs : List Loc} {cells slots : Nat} {Q : State → Prop}
variable {cc : ByteArray} {pc nL idx : Nat} {ls : Array Slot} {rest : List Value} {lv : List (Nat × Value)} {A : Nat → Prop} {H0 : Heap} {own : String}
end CR_X7_has
/-! CapCouncil$Whole.is (I)Z -/
def X7_is (a1 : Int32) : Option Int32 :=
  if a1 = (5 : Int32) then
    (some (1 : Int32))
  else
    ((X4_is a1).bind fun v2 =>
    if v2 = 0 then
      (some (0 : Int32))
    else
      (some (1 : Int32)))
def rm_X7_is : Room := { frames := 2, cells := 0, slots := 0, locals := 42 }
set_option maxHeartbeats 4000000 in
set_option maxRecDepth 100000 in
theorem met_X7_is (l : Launch) (D : va_G) (ct : Nat → ClassId) (q : Nat) (sz : Nat) (kd : Nat) (num : Int32) (hkd : kd < 6) (a1 : Int32) (z : Int32) (hd : X7_is a1 = some z) : Met l yX7_is (ws_ yX7_is cX7_is 2 (some .boolean)) rm_X7_is (GPre gE_0 D ct [q] (WR kd num q) sz [.ref q, .int a1]) (vp_Si (fun r => r = z)) 0 0 (fun _ => False) := by
  refine g_met (cc := cX7_is) (maxL := 2) (ret := (some .boolean)) (by decide) (Nat.le_of_ble_eq_true rfl) ?_
  intro p e U m args below meth c ls S hr hlk hK hH hE hsz hl
  have S : CallFix p m c cX7_is 2 U args lw_all RX7 := S
  have hx := S.1
  have hb := S.2.1
  have hl : lv_has ls 2 [(0, .ref q), (1, .int a1)] := hl
  unfold X7_is at hd
  refine lv_iload_n (pc := 0) hx hb dX7_is_0 rfl (lv_at hl 1 rfl) ?_
  refine lv_iconst (v := (5 : Int32)) (pc := 1) hx hb dX7_is_1 (by decide) ?_
  refine lv_icmp_eq (pc := 2) (tgt := 13) hx hb dX7_is_2 (by decide) (fun c1 => ?_) (fun c1 => ?_)
  · have hd := if_t c1 hd
    refine lv_iconst (v := (1 : Int32)) (pc := 13) hx hb dX7_is_13 (by decide) ?_
    refine lv_goto (pc := 14) (tgt := 18) hx hb dX7_is_14 (by decide) ?_
    exact r_zret rfl hd S hr hlk dX7_is_18
  · have hd := if_n c1 hd
    refine lv_aload_n (pc := 5) hx hb dX7_is_5 rfl (lv_at hl 0 rfl) ?_
    refine lv_iload_n (pc := 6) hx hb dX7_is_6 rfl (lv_at hl 1 rfl) ?_
    obtain ⟨v2, hv2, hd⟩ := bs_bd hd
    refine sup_X4_is (pc := 7) S hl hK hH hkd q880 q472 hv2 ⟨Nat.le_of_ble_eq_true rfl, Nat.le_of_ble_eq_true rfl⟩ (Nat.le_of_ble_eq_true rfl) dX7_is_7 ⟨Nat.zero_le _, Nat.zero_le _⟩ ?_
    refine lv_if_eq (pc := 10) (tgt := 17) hx hb dX7_is_10 (by decide) (fun c3 => ?_) (fun c3 => ?_)
    · have hd := if_t c3 hd
      refine lv_iconst (v := (0 : Int32)) (pc := 17) hx hb dX7_is_17 (by decide) ?_
      exact r_zret rfl hd S hr hlk dX7_is_18
    · have hd := if_n c3 hd
      refine lv_iconst (v := (1 : Int32)) (pc := 13) hx hb dX7_is_13 (by decide) ?_
      refine lv_goto (pc := 14) (tgt := 18) hx hb dX7_is_14 (by decide) ?_
      exact r_zret rfl hd S hr hlk dX7_is_18
section CR_X7_is
variable {p : Program} {l : Launch} {e : Env} {R : Room} {s : State} {m : MethodId} {args : Array Value} {below : List Frame} {meth : Method} {c : Code} {H : Heap} {locs : List Loc} {cells slots : Nat} {Q : State → Prop}
variable {cc : ByteArray} {pc nL idx : Nat} {ls : Array Slot} {rest : List Value} {lv : List (Nat × Value)} {A : Nat → Prop} {H0 : Heap} {own : String}
end CR_X7_is
/-! CapCouncil$Whole.kind ()I -/
def X7_kind : Option Int32 :=
  some (5 : Int32)
def rm_X7_kind : Room := { frames := 0, cells := 0, slots := 0, locals := 0 }
set_option maxHeartbeats 4000000 in
set_option maxRecDepth 100000 in
theorem met_X7_kind (l : Launch) (D : va_G) (ct : Nat → ClassId) (q : Nat) (sz : Nat) (kd : Nat) (num : Int32) (hkd : kd < 6) (z : Int32) (hd : X7_kind = some z) : Met l yX7_kind (ws_ yX7_kind cX7_kind 1 (some .int)) rm_X7_kind (GPre gE_0 D ct [q] (WR kd num q) sz [.ref q]) (vp_Si (fun r => r = z)) 0 0 (fun _ => False) := by
  refine g_met (cc := cX7_kind) (maxL := 1) (ret := (some .int)) (by decide) (Nat.le_of_ble_eq_true rfl) ?_
  intro p e U m args below meth c ls S hr hlk hK hH hE hsz hl
  have S : CallFix p m c cX7_kind 1 U args lw_all RX7 := S
  have hx := S.1
  have hb := S.2.1
  have hl : lv_has ls 1 [(0, .ref q)] := hl
  unfold X7_kind at hd
  refine lv_iconst (v := (5 : Int32)) (pc := 0) hx hb dX7_kind_0 (by decide) ?_
  exact r_iret hd S hr hlk dX7_kind_1
section CR_X7_kind
variable {p : Program} {l : Launch} {e : Env} {R : Room} {s : State} {m : MethodId} {args : Array Value} {below : List Frame} {meth : Method} {c : Code} {H : Heap} {locs : List Loc} {cells slots : Nat} {Q : State → Prop}
variable {cc : ByteArray} {pc nL idx : Nat} {ls : Array Slot} {rest : List Value} {lv : List (Nat × Value)} {A : Nat → Prop} {H0 : Heap} {own : String}
end CR_X7_kind
/-- what a ring of a kind answers -/
def T_has (kd : Nat) (a1 : Int32) (a2 : Int32) (a3 : Int32) (a4 : Int32) : Option Int32 := match kd with
  | 0 => X2_has a1 a2 a3 a4
  | 1 => X3_has a1 a2 a3 a4
  | 2 => X4_has a1 a2 a3 a4
  | 3 => X5_has a1 a2 a3 a4
  | 4 => X6_has a1 a2 a3 a4
  | 5 => X7_has a1 a2 a3 a4
  | _ => none
def X_rHas (st : XS) (j : Nat) (a1 : Int32) (a2 : Int32) (a3 : Int32) (a4 : Int32) : Option Int32 := (xg st j).bind fun g => T_has g.1 a1 a2 a3 a4
section RC_has
variable {p : Program} {l : Launch} {e : Env} {R : Room} {s : State} {m : MethodId} {args : Array Value} {below : List Frame} {meth : Method} {c : Code} {H : Heap} {locs : List Loc} {cells slots : Nat} {Q : State → Prop}
variable {cc : ByteArray} {pc nL idx : Nat} {ls : Array Slot} {rest : List Value} {lv : List (Nat × Value)} {A : Nat → Prop} {H0 : Heap} {own : String}
theorem call_X_rHas {D : va_G} {ct : Nat → ClassId} {a : XA} {ρ : Option Nat} {st : XS} {j : Nat} {a1 : Int32} {a2 : Int32} {a3 : Int32} {a4 : Int32} {z : Int32} (S : CallFix p m c cc nL s args lw_all own) (hl : lv_has ls nL lv) (hK : va_K D clA (tysG ct) s) (hH : GH D A (xAs a) H0 (WX ct a ρ st) H locs) (hj : j < 11) (hlk : Cond.methodLink own idx yX2_has ∈ lw_all) (hv : X_rHas st j a1 a2 a3 a4 = some z) (hR : 3 ≤ R.frames ∧ 96 ≤ R.locals) (hsum : (rest.map fun v => v.category).sum ≤ 8) (hdg : decode cc pc = .ok (.invokevirtual idx, 3)) (hf : cells ≤ R.cells ∧ slots ≤ R.slots) (k : W p l e R s m args below meth c H locs cells slots Q (F0 m (pc + 3) ls (.int z :: rest))) : W p l e R s m args below meth c H locs cells slots Q (F0 m pc ls (.int a4 :: .int a3 :: .int a2 :: .int a1 :: va_rf (ag a j) :: rest)) := by
  obtain ⟨⟨kd, num⟩, hg, hv⟩ := bs_bd hv
  obtain ⟨q, k0, hq, hkd, hat⟩ := xg_has hH hj hg
  have hT : GH D (fun _ => True) [q] H (WR kd num q) H locs := rg_world hH.1 hat
  have hb := rg_recv hK hT.1 hkd (k := 0) rfl
  rw [hq]
  match kd, hkd, hv, hT, hb with
  | 0, hkd, hv, hT, hb => exact o_calli (x := yX2_has) (owner := RX2) (C := RX2) (av := [.int a1, .int a2, .int a3, .int a4]) S hl gE_0_ok trivial hK hT (met_X2_has l D ct q H.size 0 num hkd a1 a2 a3 a4 z hv) (lw_O hlk q539 q537 q538 q537 q81 q544) (q544) rfl rfl ⟨by decide, by decide, by show (parseMethodDescriptor yX2_has.desc).map (fun d => d.parameters.length) = some 4; decide +kernel⟩ ⟨Nat.le_trans (Nat.le_of_ble_eq_true rfl) hR.1, Nat.le_trans (Nat.le_of_ble_eq_true rfl) hR.2⟩ hb rfl hsum hdg hf k
  | 1, hkd, hv, hT, hb => exact o_calli (x := yX2_has) (owner := RX2) (C := RX3) (av := [.int a1, .int a2, .int a3, .int a4]) S hl gE_0_ok trivial hK hT (met_X3_has l D ct q H.size 1 num hkd a1 a2 a3 a4 z hv) (lw_O hlk q539 q537 q552 q549 q82 q550) (q544) rfl rfl ⟨by decide, by decide, by show (parseMethodDescriptor yX2_has.desc).map (fun d => d.parameters.length) = some 4; decide +kernel⟩ ⟨Nat.le_trans (Nat.le_of_ble_eq_true rfl) hR.1, Nat.le_trans (Nat.le_of_ble_eq_true rfl) hR.2⟩ hb rfl hsum hdg hf k
  | 2, hkd, hv, hT, hb => exact o_calli (x := yX2_has) (owner := RX2) (C := RX4) (av := [.int a1, .int a2, .int a3, .int a4]) S hl gE_0_ok trivial hK hT (met_X4_has l D ct q H.size 2 num hkd a1 a2 a3 a4 z hv) (lw_O hlk q539 q537 q540 q541 q83 q542) (q544) rfl rfl ⟨by decide, by decide, by show (parseMethodDescriptor yX2_has.desc).map (fun d => d.parameters.length) = some 4; decide +kernel⟩ ⟨Nat.le_trans (Nat.le_of_ble_eq_true rfl) hR.1, Nat.le_trans (Nat.le_of_ble_eq_true rfl) hR.2⟩ hb rfl hsum hdg hf k
  | 3, hkd, hv, hT, hb => exact o_calli (x := yX2_has) (owner := RX2) (C := RX5) (av := [.int a1, .int a2, .int a3, .int a4]) S hl gE_0_ok trivial hK hT (met_X5_has l D ct q H.size 3 num hkd a1 a2 a3 a4 z hv) (lw_O hlk q539 q537 q553 q554 q84 q555) (q544) rfl rfl ⟨by decide, by decide, by show (parseMethodDescriptor yX2_has.desc).map (fun d => d.parameters.length) = some 4; decide +kernel⟩ ⟨Nat.le_trans (Nat.le_of_ble_eq_true rfl) hR.1, Nat.le_trans (Nat.le_of_ble_eq_true rfl) hR.2⟩ hb rfl hsum hdg hf k
  | 4, hkd, hv, hT, hb => exact o_calli (x := yX2_has) (owner := RX2) (C := RX6) (av := [.int a1, .int a2, .int a3, .int a4]) S hl gE_0_ok trivial hK hT (met_X6_has l D ct q H.size 4 num hkd a1 a2 a3 a4 z hv) (lw_O hlk q539 q537 q545 q546 q85 q547) (q544) rfl rfl ⟨by decide, by decide, by show (parseMethodDescriptor yX2_has.desc).map (fun d => d.parameters.length) = some 4; decide +kernel⟩ ⟨Nat.le_trans (Nat.le_of_ble_eq_true rfl) hR.1, Nat.le_trans (Nat.le_of_ble_eq_true rfl) hR.2⟩ hb rfl hsum hdg hf k
  | 5, hkd, hv, hT, hb => exact o_calli (x := yX2_has) (owner := RX2) (C := RX7) (av := [.int a1, .int a2, .int a3, .int a4]) S hl gE_0_ok trivial hK hT (met_X7_has l D ct q H.size 5 num hkd a1 a2 a3 a4 z hv) (lw_O hlk q539 q537 q557 q558 q86 q559) (q544) rfl rfl ⟨by decide, by decide, by show (parseMethodDescriptor yX2_has.desc).map (fun d => d.parameters.length) = some 4; decide +kernel⟩ ⟨Nat.le_trans (Nat.le_of_ble_eq_true rfl) hR.1, Nat.le_trans (Nat.le_of_ble_eq_true rfl) hR.2⟩ hb rfl hsum hdg hf k
  | k + 6, hkd, _, _, _ => exact absurd hkd (by omega)
end RC_has
/-- what a ring of a kind answers -/
def T_is (kd : Nat) (a1 : Int32) : Option Int32 := match kd with
  | 0 => X2_is a1
  | 1 => X3_is a1
  | 2 => X4_is a1
  | 3 => X5_is a1
  | 4 => X6_is a1
  | 5 => X7_is a1
  | _ => none
def X_rIs (st : XS) (j : Nat) (a1 : Int32) : Option Int32 := (xg st j).bind fun g => T_is g.1 a1
section RC_is
variable {p : Program} {l : Launch} {e : Env} {R : Room} {s : State} {m : MethodId} {args : Array Value} {below : List Frame} {meth : Method} {c : Code} {H : Heap} {locs : List Loc} {cells slots : Nat} {Q : State → Prop}
variable {cc : ByteArray} {pc nL idx : Nat} {ls : Array Slot} {rest : List Value} {lv : List (Nat × Value)} {A : Nat → Prop} {H0 : Heap} {own : String}
theorem call_X_rIs {D : va_G} {ct : Nat → ClassId} {a : XA} {ρ : Option Nat} {st : XS} {j : Nat} {a1 : Int32} {z : Int32} (S : CallFix p m c cc nL s args lw_all own) (hl : lv_has ls nL lv) (hK : va_K D clA (tysG ct) s) (hH : GH D A (xAs a) H0 (WX ct a ρ st) H locs) (hj : j < 11) (hlk : Cond.methodLink own idx yX2_is ∈ lw_all) (hv : X_rIs st j a1 = some z) (hR : 3 ≤ R.frames ∧ 96 ≤ R.locals) (hsum : (rest.map fun v => v.category).sum ≤ 8) (hdg : decode cc pc = .ok (.invokevirtual idx, 3)) (hf : cells ≤ R.cells ∧ slots ≤ R.slots) (k : W p l e R s m args below meth c H locs cells slots Q (F0 m (pc + 3) ls (.int z :: rest))) : W p l e R s m args below meth c H locs cells slots Q (F0 m pc ls (.int a1 :: va_rf (ag a j) :: rest)) := by
  obtain ⟨⟨kd, num⟩, hg, hv⟩ := bs_bd hv
  obtain ⟨q, k0, hq, hkd, hat⟩ := xg_has hH hj hg
  have hT : GH D (fun _ => True) [q] H (WR kd num q) H locs := rg_world hH.1 hat
  have hb := rg_recv hK hT.1 hkd (k := 0) rfl
  rw [hq]
  match kd, hkd, hv, hT, hb with
  | 0, hkd, hv, hT, hb => exact o_calli (x := yX2_is) (owner := RX2) (C := RX2) (av := [.int a1]) S hl gE_0_ok trivial hK hT (met_X2_is l D ct q H.size 0 num hkd a1 z hv) (lw_O hlk q859 q857 q858 q857 q81 q864) (q864) rfl rfl ⟨by decide, by decide, by show (parseMethodDescriptor yX2_is.desc).map (fun d => d.parameters.length) = some 1; decide +kernel⟩ ⟨Nat.le_trans (Nat.le_of_ble_eq_true rfl) hR.1, Nat.le_trans (Nat.le_of_ble_eq_true rfl) hR.2⟩ hb rfl hsum hdg hf k
  | 1, hkd, hv, hT, hb => exact o_calli (x := yX2_is) (owner := RX2) (C := RX3) (av := [.int a1]) S hl gE_0_ok trivial hK hT (met_X3_is l D ct q H.size 1 num hkd a1 z hv) (lw_O hlk q859 q857 q872 q869 q82 q870) (q864) rfl rfl ⟨by decide, by decide, by show (parseMethodDescriptor yX2_is.desc).map (fun d => d.parameters.length) = some 1; decide +kernel⟩ ⟨Nat.le_trans (Nat.le_of_ble_eq_true rfl) hR.1, Nat.le_trans (Nat.le_of_ble_eq_true rfl) hR.2⟩ hb rfl hsum hdg hf k
  | 2, hkd, hv, hT, hb => exact o_calli (x := yX2_is) (owner := RX2) (C := RX4) (av := [.int a1]) S hl gE_0_ok trivial hK hT (met_X4_is l D ct q H.size 2 num hkd a1 z hv) (lw_O hlk q859 q857 q860 q861 q83 q862) (q864) rfl rfl ⟨by decide, by decide, by show (parseMethodDescriptor yX2_is.desc).map (fun d => d.parameters.length) = some 1; decide +kernel⟩ ⟨Nat.le_trans (Nat.le_of_ble_eq_true rfl) hR.1, Nat.le_trans (Nat.le_of_ble_eq_true rfl) hR.2⟩ hb rfl hsum hdg hf k
  | 3, hkd, hv, hT, hb => exact o_calli (x := yX2_is) (owner := RX2) (C := RX5) (av := [.int a1]) S hl gE_0_ok trivial hK hT (met_X5_is l D ct q H.size 3 num hkd a1 z hv) (lw_O hlk q859 q857 q873 q874 q84 q875) (q864) rfl rfl ⟨by decide, by decide, by show (parseMethodDescriptor yX2_is.desc).map (fun d => d.parameters.length) = some 1; decide +kernel⟩ ⟨Nat.le_trans (Nat.le_of_ble_eq_true rfl) hR.1, Nat.le_trans (Nat.le_of_ble_eq_true rfl) hR.2⟩ hb rfl hsum hdg hf k
  | 4, hkd, hv, hT, hb => exact o_calli (x := yX2_is) (owner := RX2) (C := RX6) (av := [.int a1]) S hl gE_0_ok trivial hK hT (met_X6_is l D ct q H.size 4 num hkd a1 z hv) (lw_O hlk q859 q857 q865 q866 q85 q867) (q864) rfl rfl ⟨by decide, by decide, by show (parseMethodDescriptor yX2_is.desc).map (fun d => d.parameters.length) = some 1; decide +kernel⟩ ⟨Nat.le_trans (Nat.le_of_ble_eq_true rfl) hR.1, Nat.le_trans (Nat.le_of_ble_eq_true rfl) hR.2⟩ hb rfl hsum hdg hf k
  | 5, hkd, hv, hT, hb => exact o_calli (x := yX2_is) (owner := RX2) (C := RX7) (av := [.int a1]) S hl gE_0_ok trivial hK hT (met_X7_is l D ct q H.size 5 num hkd a1 z hv) (lw_O hlk q859 q857 q877 q878 q86 q879) (q864) rfl rfl ⟨by decide, by decide, by show (parseMethodDescriptor yX2_is.desc).map (fun d => d.parameters.length) = some 1; decide +kernel⟩ ⟨Nat.le_trans (Nat.le_of_ble_eq_true rfl) hR.1, Nat.le_trans (Nat.le_of_ble_eq_true rfl) hR.2⟩ hb rfl hsum hdg hf k
  | k + 6, hkd, _, _, _ => exact absurd hkd (by omega)
end RC_is
/-- what a ring of a kind answers -/
def T_kind (kd : Nat) : Option Int32 := match kd with
  | 0 => X2_kind
  | 1 => X3_kind
  | 2 => X4_kind
  | 3 => X5_kind
  | 4 => X6_kind
  | 5 => X7_kind
  | _ => none
def X_rKind (st : XS) (j : Nat) : Option Int32 := (xg st j).bind fun g => T_kind g.1
section RC_kind
variable {p : Program} {l : Launch} {e : Env} {R : Room} {s : State} {m : MethodId} {args : Array Value} {below : List Frame} {meth : Method} {c : Code} {H : Heap} {locs : List Loc} {cells slots : Nat} {Q : State → Prop}
variable {cc : ByteArray} {pc nL idx : Nat} {ls : Array Slot} {rest : List Value} {lv : List (Nat × Value)} {A : Nat → Prop} {H0 : Heap} {own : String}
theorem call_X_rKind {D : va_G} {ct : Nat → ClassId} {a : XA} {ρ : Option Nat} {st : XS} {j : Nat} {z : Int32} (S : CallFix p m c cc nL s args lw_all own) (hl : lv_has ls nL lv) (hK : va_K D clA (tysG ct) s) (hH : GH D A (xAs a) H0 (WX ct a ρ st) H locs) (hj : j < 11) (hlk : Cond.methodLink own idx yX2_kind ∈ lw_all) (hv : X_rKind st j = some z) (hR : 1 ≤ R.frames ∧ 30 ≤ R.locals) (hsum : (rest.map fun v => v.category).sum ≤ 8) (hdg : decode cc pc = .ok (.invokevirtual idx, 3)) (hf : cells ≤ R.cells ∧ slots ≤ R.slots) (k : W p l e R s m args below meth c H locs cells slots Q (F0 m (pc + 3) ls (.int z :: rest))) : W p l e R s m args below meth c H locs cells slots Q (F0 m pc ls (va_rf (ag a j) :: rest)) := by
  obtain ⟨⟨kd, num⟩, hg, hv⟩ := bs_bd hv
  obtain ⟨q, k0, hq, hkd, hat⟩ := xg_has hH hj hg
  have hT : GH D (fun _ => True) [q] H (WR kd num q) H locs := rg_world hH.1 hat
  have hb := rg_recv hK hT.1 hkd (k := 0) rfl
  rw [hq]
  match kd, hkd, hv, hT, hb with
  | 0, hkd, hv, hT, hb => exact o_calli (x := yX2_kind) (owner := RX2) (C := RX2) (av := []) S hl gE_0_ok trivial hK hT (met_X2_kind l D ct q H.size 0 num hkd z hv) (lw_O hlk q492 q490 q491 q490 q81 q508) (q508) rfl rfl ⟨by decide, by decide, by show (parseMethodDescriptor yX2_kind.desc).map (fun d => d.parameters.length) = some 0; decide +kernel⟩ ⟨Nat.le_trans (Nat.le_of_ble_eq_true rfl) hR.1, Nat.le_trans (Nat.le_of_ble_eq_true rfl) hR.2⟩ hb rfl hsum hdg hf k
  | 1, hkd, hv, hT, hb => exact o_calli (x := yX2_kind) (owner := RX2) (C := RX3) (av := []) S hl gE_0_ok trivial hK hT (met_X3_kind l D ct q H.size 1 num hkd z hv) (lw_O hlk q492 q490 q499 q500 q82 q501) (q508) rfl rfl ⟨by decide, by decide, by show (parseMethodDescriptor yX2_kind.desc).map (fun d => d.parameters.length) = some 0; decide +kernel⟩ ⟨Nat.le_trans (Nat.le_of_ble_eq_true rfl) hR.1, Nat.le_trans (Nat.le_of_ble_eq_true rfl) hR.2⟩ hb rfl hsum hdg hf k
  | 2, hkd, hv, hT, hb => exact o_calli (x := yX2_kind) (owner := RX2) (C := RX4) (av := []) S hl gE_0_ok trivial hK hT (met_X4_kind l D ct q H.size 2 num hkd z hv) (lw_O hlk q492 q490 q493 q494 q83 q495) (q508) rfl rfl ⟨by decide, by decide, by show (parseMethodDescriptor yX2_kind.desc).map (fun d => d.parameters.length) = some 0; decide +kernel⟩ ⟨Nat.le_trans (Nat.le_of_ble_eq_true rfl) hR.1, Nat.le_trans (Nat.le_of_ble_eq_true rfl) hR.2⟩ hb rfl hsum hdg hf k
  | 3, hkd, hv, hT, hb => exact o_calli (x := yX2_kind) (owner := RX2) (C := RX5) (av := []) S hl gE_0_ok trivial hK hT (met_X5_kind l D ct q H.size 3 num hkd z hv) (lw_O hlk q492 q490 q502 q503 q84 q504) (q508) rfl rfl ⟨by decide, by decide, by show (parseMethodDescriptor yX2_kind.desc).map (fun d => d.parameters.length) = some 0; decide +kernel⟩ ⟨Nat.le_trans (Nat.le_of_ble_eq_true rfl) hR.1, Nat.le_trans (Nat.le_of_ble_eq_true rfl) hR.2⟩ hb rfl hsum hdg hf k
  | 4, hkd, hv, hT, hb => exact o_calli (x := yX2_kind) (owner := RX2) (C := RX6) (av := []) S hl gE_0_ok trivial hK hT (met_X6_kind l D ct q H.size 4 num hkd z hv) (lw_O hlk q492 q490 q496 q497 q85 q498) (q508) rfl rfl ⟨by decide, by decide, by show (parseMethodDescriptor yX2_kind.desc).map (fun d => d.parameters.length) = some 0; decide +kernel⟩ ⟨Nat.le_trans (Nat.le_of_ble_eq_true rfl) hR.1, Nat.le_trans (Nat.le_of_ble_eq_true rfl) hR.2⟩ hb rfl hsum hdg hf k
  | 5, hkd, hv, hT, hb => exact o_calli (x := yX2_kind) (owner := RX2) (C := RX7) (av := []) S hl gE_0_ok trivial hK hT (met_X7_kind l D ct q H.size 5 num hkd z hv) (lw_O hlk q492 q490 q505 q506 q86 q507) (q508) rfl rfl ⟨by decide, by decide, by show (parseMethodDescriptor yX2_kind.desc).map (fun d => d.parameters.length) = some 0; decide +kernel⟩ ⟨Nat.le_trans (Nat.le_of_ble_eq_true rfl) hR.1, Nat.le_trans (Nat.le_of_ble_eq_true rfl) hR.2⟩ hb rfl hsum hdg hf k
  | k + 6, hkd, _, _, _ => exact absurd hkd (by omega)
end RC_kind
