/-! a kept parish that is made -/
set_option maxRecDepth 100000
section KN
variable {p : Program} {l : Launch} {e : Env} {R : Room} {s : State} {m : MethodId} {args : Array Value} {below : List Frame} {meth : Method} {c : Code} {H : Heap} {locs : List Loc} {cells slots : Nat} {Q : State → Prop}
variable {cc bytes : ByteArray} {pc nL maxL idx mc ms sz q kd N j : Nat} {num i x n : Int32} {ls : Array Slot} {rest av st0 : List Value} {lv : List (Nat × Value)} {D : va_G} {ct : Nat → ClassId} {A : Nat → Prop} {as : List Nat} {H0 : Heap} {ws : va_W} {own : String} {a : XA} {st st1 : XS}
theorem gw_newI (S : CallFix p m c cc nL s args lw_all own) (hK : va_K D clA (tysG ct) s) (hP : va_P D clA ws H) (hD : va_D A ws) (hS : va_S A H0 H locs) (hA : ∀ q, H0.size ≤ q → A q) (hn : ¬ n < 0) (hN : n.toNatClampNeg = N) (hbytes : N ≤ 100000) (hc : cells + 1 ≤ R.cells) (hs : slots + N ≤ R.slots) (hdg : decode cc pc = .ok (.newarray .int, 2))
    (k : ∀ (q : Nat) (H1 : Heap), va_P D clA (ws ++ [(q, .inl (ct 0, N, .inl (fun _ => 0)))]) H1 → va_D A (ws ++ [(q, .inl (ct 0, N, .inl (fun _ => 0)))]) → va_S A H0 H1 locs → W p l e R s m args below meth c H1 locs (cells + 1) (slots + N) Q (F0 m (pc + 2) ls (.ref q :: rest))) : W p l e R s m args below meth c H locs cells slots Q (F0 m pc ls (.int n :: rest)) := by
  refine va_newa (atype := .int) (a0 := (N, .inl (fun _ => 0))) S.1 S.2.1 (S.2.2.2.2 _ q191) (ty := .int) rfl hK hP hD hS hA (fun cA => rfl) hn hN (by show N * 4 ≤ _; omega) hc hs hdg (fun q cA H1 hK1 hP hD hS => ?_)
  have e1 : s.vm.findClass ("[" ++ FieldType.int.toString) = some cA := (hK1.2 (tysG ct).length (cA, .int) (by simp)).2
  have e2 : s.vm.findClass ("[" ++ FieldType.int.toString) = some (ct 0) := (hK.2 0 (ct 0, .int) rfl).2
  have e3 : cA = ct 0 := Option.some.inj (e1.symm.trans e2)
  subst e3
  exact k q H1 hP hD hS
end KN
def rm_X8_init : Room := { frames := 2, cells := 2, slots := 574, locals := 40 }
def wKept (ct : Nat → ClassId) (q q2 q3 : Nat) : va_W := [(q, .inr (8, [.int 0, .ref q2, .ref q3])), (q2, .inl (ct 0, 560, .inl (fun _ => 0))), (q3, .inl (ct 0, 14, .inl (fun _ => 0)))]
theorem met_X8_init (l : Launch) (D : va_G) (ct : Nat → ClassId) (q sz : Nat) : Met l yX8_init (ws_ yX8_init cX8_init 1 none) rm_X8_init (GPre gE_0 D ct [q] ([(q, .inr (8, [.int 0, .null, .null]))], True) sz [.ref q]) (va_Qv (S := Nat × Nat) (fun _ => True) (fun u t => va_P D clA (wKept ct q u.1 u.2) t.heap ∧ va_D (gA [q] sz) (wKept ct q u.1 u.2)) (gA [q] sz)) 2 574 (gA [q] sz) := by
  refine g_metI (cc := cX8_init) (maxL := 1) (ret := none) (by decide) rfl (Nat.le_of_ble_eq_true rfl) ?_
  intro p e U m args below meth c ls S hr hlk hin hK hH hE hsz hl
  have S : CallFix p m c cX8_init 1 U args lw_all RX8 := S
  have hx := S.1
  have hb := S.2.1
  have hl : lv_has ls 1 [(0, .ref q)] := hl
  have hD := hH.D
  obtain ⟨hP, -, hS, -, hA, -⟩ := hH
  refine lv_aload_n (pc := 0) hx hb dX8_init_0 rfl (lv_at hl 0 rfl) ?_
  refine g_objInit (pc := 1) S hl q710 dX8_init_1 ⟨Nat.le_of_ble_eq_true rfl, Nat.le_of_ble_eq_true rfl⟩ (Nat.le_of_ble_eq_true rfl) ?_
  refine lv_aload_n (pc := 4) hx hb dX8_init_4 rfl (lv_at hl 0 rfl) ?_
  refine lv_sipush (v := (560 : Int32)) (pc := 5) hx hb dX8_init_5 (by decide) ?_
  refine gw_newI (pc := 8) (N := 560) S hK hP hD hS hA (by decide) (by decide) (by decide) (Nat.le_of_ble_eq_true rfl) (Nat.le_of_ble_eq_true rfl) dX8_init_8 (fun q2 H hP hD hS => ?_)
  refine va_putF (pc := 10) (D := D) (cl := clA) (ci := 8) (v := .ref q2) (ty := .array .int) (C := RX8) (T := TX8) (N := 3) S.1 S.2.1 S.2.2.2.2 in_X8 tyX8 tyX8_ok nmX8 S.2.2.2.1 hK hP hD hS 0 rfl rfl 1 (by decide) (S.2.2.2.2 _ q712) (fun _ h9 => h9) rfl hin rfl (by decide +kernel) rfl rfl (Nat.le_of_ble_eq_true rfl) dX8_init_10 (fun H locs hP hD hS => ?_)
  refine lv_aload_n (pc := 13) hx hb dX8_init_13 rfl (lv_at hl 0 rfl) ?_
  refine lv_bipush (v := (14 : Int32)) (pc := 14) hx hb dX8_init_14 (by decide) ?_
  refine gw_newI (pc := 16) (N := 14) S hK hP hD hS hA (by decide) (by decide) (by decide) (Nat.le_of_ble_eq_true rfl) (Nat.le_of_ble_eq_true rfl) dX8_init_16 (fun q3 H hP hD hS => ?_)
  refine va_putF (pc := 18) (D := D) (cl := clA) (ci := 8) (v := .ref q3) (ty := .array .int) (C := RX8) (T := TX8) (N := 3) S.1 S.2.1 S.2.2.2.2 in_X8 tyX8 tyX8_ok nmX8 S.2.2.2.1 hK hP hD hS 0 rfl rfl 2 (by decide) (S.2.2.2.2 _ q714) (fun _ h9 => h9) rfl hin rfl (by decide +kernel) rfl rfl (Nat.le_of_ble_eq_true rfl) dX8_init_18 (fun H locs hP hD hS => ?_)
  exact W.vret hx hb hr (fun t ht _ => ⟨⟨(q2, q3), rfl, trivial, by rw [ht]; exact hP, hD⟩, hS.F ht⟩) hS.2.2 dX8_init_21 hlk
section KN2
variable {p : Program} {l : Launch} {e : Env} {R : Room} {s : State} {m : MethodId} {args : Array Value} {below : List Frame} {meth : Method} {c : Code} {H : Heap} {locs : List Loc} {cells slots : Nat} {Q : State → Prop}
variable {cc bytes : ByteArray} {pc nL maxL idx mc ms sz q kd N j : Nat} {num i x n : Int32} {ls : Array Slot} {rest av st0 : List Value} {lv : List (Nat × Value)} {D : va_G} {ct : Nat → ClassId} {A : Nat → Prop} {as : List Nat} {H0 : Heap} {ws : va_W} {own : String} {a : XA} {st st1 : XS}
theorem kd_def : ∀ k, k < 3 → defaultValue (tyX8 k) = vp_V [.int 0, .null, .null] k := by
  intro k hk
  match k, hk with
  | 0, _ => rfl
  | 1, _ => rfl
  | 2, _ => rfl
  | k + 3, h => exact absurd h (by omega)
/-- new Kept(): behind the world -/
theorem xa_newKept (S : CallFix p m c cX0_keep 3 s args lw_all RX0) (hl : lv_has ls 3 lv) (hE : gEX s) (hK : va_K D clA (tysG ct) s) (hH : GH D A (xAs a) H0 (WX ct a none st) H locs) (hsum : (rest.map fun v => v.category).sum ≤ 7) (hR : 4 ≤ R.frames ∧ 80 ≤ R.locals) (hf : cells + 3 ≤ R.cells ∧ slots + 577 ≤ R.slots)
    (k : ∀ (q q2 q3 : Nat) (H1 : Heap) (locs1 : List Loc), GN D A (xAs a) H0 (WX ct a none st) (wKept ct q q2 q3) H1 locs1 → W p l e R s m args below meth c H1 locs1 (cells + 3) (slots + 577) Q (F0 m 40 ls (.ref q :: rest))) : W p l e R s m args below meth c H locs cells slots Q (F0 m 33 ls rest) := by
  have hx := S.1
  have hb := S.2.1
  refine va_new (pc := 33) (own := RX0) (C := RX8) (T := TX8) (N := 3) (ci := 8) (fs := [.int 0, .null, .null]) (A := A) (H0 := H0) S.1 S.2.1 S.2.2.2.2 in_X8 tyX8 tyX8_ok S.2.2.2.1 (S.2.2.2.2 _ q105) (S.2.2.2.2 _ q706) (S.2.2.2.2 _ q90) hK hH.1 hH.D hH.2.2.1 hH.2.2.2.2.1 rfl kd_def (by omega) (by omega) dX0_keep_33 (fun q H' hP hD hS => ?_)
  have hqat : ((WX ct a none st).1 ++ [(q, (Sum.inr (8, [Value.int 0, .null, .null]) : va_E))])[(WX ct a none st).1.length]? = some (q, .inr (8, [.int 0, .null, .null])) := List.getElem?_concat_length
  have hAq : A q := hD.2 _ _ hqat
  refine lv_dup (pc := 36) hx hb dX0_keep_36 rfl ?_
  have hP1 : va_P D clA [(q, (Sum.inr (8, [Value.int 0, .null, .null]) : va_E))] H' := P_mem.mpr fun x hx => P_mem.mp hP x (List.mem_append_right _ hx)
  have hp : PreS s H' (GPre gE_0 D ct [q] ([(q, .inr (8, [.int 0, .null, .null]))], True) H'.size [.ref q]) [.ref q] := ⟨g_blind gE_0_ok, fun U hU hW => ⟨rfl, by rw [hU], by rw [hU]; exact hP1, va_K.moved hW.alike hK, D_iff.mpr ⟨by simp, fun x h => by rw [List.mem_singleton.mp h]; exact List.mem_singleton.mpr rfl⟩, trivial, trivial⟩⟩
  have hf0 : ∀ z, gA [q] H'.size z → A z := fun z h => h.elim (fun h => by rw [List.mem_singleton.mp h]; exact hAq) (fun h => hH.2.2.2.2.1 z (Nat.le_trans hS.1 h))
  refine va_callv (pc := 37) (va_runIN (As := []) (rest := .ref q :: rest) S (met_X8_init l D ct q H'.size) ⟨va_cnB 0 S.2.2.2.2 (lw_meth q709) rfl rfl rfl (hE.1 _ (List.mem_of_getElem? (i := 5) rfl)) (S.2.2.2.2 _ q90) ⟨by decide, by decide, by show (parseMethodDescriptor yX8_init.desc).map (fun d => d.parameters.length) = some 0; decide +kernel⟩ ⟨by show 2 + 1 ≤ _; omega, by show 8 + (1 + 11) + 40 ≤ _; omega⟩, rfl, S.2.2.2.2 _ q708⟩ hp rfl rfl hl.1 rfl (by show 2 * 0 + (1 + (rest.map fun v => v.category).sum) ≤ 8; omega) dX0_keep_37 ⟨by omega, by omega⟩) hS (fun z _ h => hf0 z h) hf0 (fun u t H1 locs1 ht hvm _ hB hz hk hS => ?_)
  obtain ⟨hP2, hD2⟩ := hB
  rw [ht] at hP2
  have hne : ∀ (k0 : Nat) (x : Nat × va_E), (WX ct a none st).1[k0]? = some x → x.1 < H'.size ∧ ¬ gA [q] H'.size x.1 := by
    intro k0 x hx
    have h1 := List.mem_of_getElem? hx
    have h2 := (P_mem.mp hP x (List.mem_append_left _ h1)).lt
    refine ⟨h2, fun h => h.elim (fun h => ?_) (fun h => absurd h2 (Nat.not_lt.mpr h))⟩
    have h3 := List.mem_singleton.mp h
    have hkl : k0 < (WX ct a none st).1.length := (List.getElem?_eq_some_iff.mp hx).1
    have := hD.1 k0 _ _ _ ((List.getElem?_append_left hkl).trans hx) hqat h3
    omega
  have hPW : va_P D clA (WX ct a none st).1 H' := P_mem.mpr fun x hx => P_mem.mp hP x (List.mem_append_left _ hx)
  exact k q u.1 u.2 H1 locs1 ⟨va_P.app (hPW.kept fun k0 x hx => hk _ (hne k0 x hx).1 (hne k0 x hx).2) hP2, va_D.app hH.D (hD2.weaken fun _ x _ h => hf0 _ h) (fun i j x y hx hy hxy => (hne i x hx).2 (by rw [hxy]; exact hD2.2 j y hy)), hS, hH.2.2.2⟩
theorem xa_kept {q q2 q3 : Nat} (S : CallFix p m c cc nL s args lw_all own) (hK : va_K D clA (tysG ct) s) (hH : GN D A (xAs a) H0 (WX ct a none st) (wKept ct q q2 q3) H locs) (hv : bs_ix 3 i = some j) (he : st1 = sxk st j (some (0, (fun _ => 0), (fun _ => 0)))) (hdg : decode cc pc = .ok (.aastore, 1))
    (k : ∀ (b : XB) (H1 : Heap) (locs1 : List Loc), GH D A (xAs (a.1, b)) H0 (WX ct (a.1, b) none st1) H1 locs1 → W p l e R s m args below meth c H1 locs1 cells slots Q (F0 m (pc + 1) ls rest)) : W p l e R s m args below meth c H locs cells slots Q (F0 m pc ls (.ref q :: .int i :: .ref (ah a 13) :: rest)) := by
  obtain ⟨h1, h2⟩ := bs_ix_spec hv
  have hj := bs_ix_lt hv
  subst he
  obtain ⟨hP, hD, hS, hA, hA2, hX⟩ := hH
  have hqat : ((WX ct a none st).1 ++ wKept ct q q2 q3)[(WX ct a none st).1.length]? = some (q, .inr (8, [.int 0, .ref q2, .ref q3])) := by
    rw [List.getElem?_append_right (Nat.le_refl _), Nat.sub_self]
    rfl
  refine va_astq (cl := clA) (r := (RX8, TX8, 3)) S.1 S.2.1 hK hP hD hS 13 6 (WX ct a none st).1.length 8 rfl rfl hqat rfl h1 hdg (fun H1 locs1 hP1 hD1 hS1 => ?_)
  rw [h2] at hP1 hD1
  obtain ⟨P1, P2, e1, e2, -, e4⟩ := wx_kept ct a none st hj
  have hl2 : 13 < (WX ct a none st).1.length := by rw [e1, List.length_append]; omega
  rw [List.set_append_left _ _ hl2, e1, List.set_append_left _ _ (by omega)] at hP1 hD1
  obtain ⟨hP2, hD2⟩ := w_repl hP1 hD1
  have e5 := e4 none (some (q, q2, q3)) (some (0, (fun _ => 0), (fun _ => 0)))
  have hp : kP ct (axk a j (some (q, q2, q3))) (sxk st j (some (0, (fun _ => 0), (fun _ => 0)))) j = wKept ct q q2 q3 := by
    unfold kP
    rw [show ak (axk a j (some (q, q2, q3))) j = some (q, q2, q3) from va_up_self _ _ _, show xk (sxk st j (some (0, (fun _ => 0), (fun _ => 0)))) j = some (0, (fun _ => 0), (fun _ => 0)) from va_up_self _ _ _]
    rfl
  rw [hp, Option.map_some] at e5
  rw [← e5] at hP2 hD2
  refine k (axk a j (some (q, q2, q3))).2 H1 locs1 ⟨hP2, D_as hD2, hS1, fun x hx => (as_k x hx).elim (hA x) (fun h => ?_), hA2, xok_kk hX.1 j _ _ rfl, fun t h => by cases h⟩
  obtain ⟨z, hz, hx⟩ := h
  cases hz
  have h3 : ∀ y ∈ wKept ct q q2 q3, A y.1 := fun y hy => (D_iff.mp hD).2 y (List.mem_append_right _ hy)
  simp only [List.mem_cons, List.not_mem_nil, or_false] at hx
  rcases hx with rfl | rfl | rfl
  · exact h3 _ List.mem_cons_self
  · exact h3 _ (List.mem_cons_of_mem _ List.mem_cons_self)
  · exact h3 _ (List.mem_cons_of_mem _ (List.mem_cons_of_mem _ List.mem_cons_self))
end KN2
