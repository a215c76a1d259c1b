/-! mark: the rings' own methods -/
set_option maxRecDepth 100000
section MKB
variable {p : Program} {l : Launch} {e : Env} {R : Room} {s : State} {m : MethodId} {args : Array Value} {below : List Frame} {meth : Method} {c : Code} {H : Heap} {locs : List Loc} {cells slots : Nat} {Q : State → Prop}
variable {cc bytes : ByteArray} {pc nL maxL idx mc ms sz b kd j : Nat} {num v x y : Int32} {ls : Array Slot} {rest av st0 : List Value} {lv : List (Nat × Value)} {D : va_G} {ct : Nat → ClassId} {A : Nat → Prop} {H0 : Heap} {a : XA} {ρ : Option Nat} {st st1 : XS} {own : String}
theorem ca_bytes {tx : String} (h : tx.toList.length ≤ 240) : (stringBytes (stringToUtf16 tx)).size ≤ 1000 := by
  have b1 := stringBytes_size_le (stringToUtf16 tx)
  have b2 := utf16_size_le tx
  omega
theorem xg_num (S : CallFix p m c cc nL s args lw_all RX2) (hE : gEX s) (hK : va_K D clA (tysG ct) s) (hH : GH D A (xAs a) H0 (WX ct a ρ st) H locs) (hj : j < 11) (hv : ((xg st j).map fun q => q.2) = some v) (hdg : decode cc pc = .ok (.getfield 9, 3)) (k : W p l e R s m args below meth c H locs cells slots Q (F0 m (pc + 3) ls (.int v :: rest))) : W p l e R s m args below meth c H locs cells slots Q (F0 m pc ls (va_rf (ag a j) :: rest)) := by
  obtain ⟨⟨kd, num⟩, hg, rfl⟩ := Option.map_eq_some_iff.mp hv
  obtain ⟨q, k0, hq, hkd, hat⟩ := xg_has hH hj hg
  rw [hq]
  exact va_get (D := D) (cl := clA) (ci := 2 + kd) (v := .int num) (C := (rgC kd).1) (T := TR) (N := 1) S.1 S.2.1 S.2.2.2.2 (rg_in hkd) S.2.2.2.1 hK hH.1 k0 hat (rg_cl2 hkd) 0 (by decide) (S.2.2.2.2 _ q437) (fun _ h9 => h9) rfl hdg k
theorem xg_yearN2 (S : CallFix p m c cc nL s args lw_all RX2) (hE : gEX s) (hK : va_K D clA (tysG ct) s) (hH : GH D A (xAs a) H0 (WX ct a ρ st) H locs) (hdg : decode cc pc = .ok (.getfield 15, 3)) (k : W p l e R s m args below meth c H locs cells slots Q (F0 m (pc + 3) ls (.int (xi st 7) :: rest))) : W p l e R s m args below meth c H locs cells slots Q (F0 m pc ls (.ref (ah a 0) :: rest)) :=
  va_getN (D := D) (cl := clA) (ci := 0) (v := .int (xi st 7)) (host := RX0) (C := RX0) (T := TX0) (N := 27) S.1 S.2.1 S.2.2.2.2 in_X0 S.2.2.2.1 hK hH.1 0 rfl rfl 19 (by decide) (va_Nw.use rfl (hE.1 _ (List.mem_of_getElem? (i := 3) rfl))) (fun _ h9 => h9) rfl hdg k
theorem xg_yearN5 (S : CallFix p m c cc nL s args lw_all RX5) (hE : gEX s) (hK : va_K D clA (tysG ct) s) (hH : GH D A (xAs a) H0 (WX ct a ρ st) H locs) (hdg : decode cc pc = .ok (.getfield 17, 3)) (k : W p l e R s m args below meth c H locs cells slots Q (F0 m (pc + 3) ls (.int (xi st 7) :: rest))) : W p l e R s m args below meth c H locs cells slots Q (F0 m pc ls (.ref (ah a 0) :: rest)) :=
  va_getN (D := D) (cl := clA) (ci := 0) (v := .int (xi st 7)) (host := RX0) (C := RX0) (T := TX0) (N := 27) S.1 S.2.1 S.2.2.2.2 in_X0 S.2.2.2.1 hK hH.1 0 rfl rfl 19 (by decide) (va_Nw.use rfl (hE.1 _ (List.mem_of_getElem? (i := 4) rfl))) (fun _ h9 => h9) rfl hdg k
theorem call_X_holdsN {a1 a2 a3 a4 z : Int32} (S : CallFix p m c cc nL s args lw_all RX2) (hl : lv_has ls nL lv) (hE : gEX s) (hK : va_K D clA (tysG ct) s) (hH : GH D A (xAs a) H0 (WX ct a ρ st) H locs) (hv : X_holds st a1 a2 a3 a4 = some z) (hR : 5 ≤ R.frames ∧ 144 ≤ R.locals) (hsum : (rest.map fun v => v.category).sum ≤ 8) (hdg : decode cc pc = .ok (.invokevirtual 18, 3)) (hf : cells ≤ R.cells ∧ slots ≤ R.slots) (k : W p l e R s m args below meth c H locs cells slots Q (F0 m (pc + 3) ls (.int z :: rest))) : W p l e R s m args below meth c H locs cells slots Q (F0 m pc ls (.int a4 :: .int a3 :: .int a2 :: .int a1 :: .ref (ah a 0) :: rest)) := by
  have hp := g_pre (av := [.ref (ah a 0), .int a1, .int a2, .int a3, .int a4]) gEX_ok hE hK hH
  refine vp_callSi (va_Run.run (va_runVN (As := [.int a1, .int a2, .int a3, .int a4]) (rest := rest) S (met_X_holds l D ct a ρ H.size st a1 a2 a3 a4 z hv) ⟨va_cnB 4 S.2.2.2.2 (lw_meth q616) rfl rfl rfl (hE.1 _ (List.mem_of_getElem? (i := 6) rfl)) (S.2.2.2.2 _ q69) ⟨by decide, by decide, by show (parseMethodDescriptor yX0_holds.desc).map (fun d => d.parameters.length) = some 4; decide +kernel⟩ ⟨by show 4 + 1 ≤ _; omega, by show 8 + (5 + 11) + 120 ≤ _; omega⟩, S.2.2.2.2 _ q615, S.2.2.2.2 _ qs19⟩ ⟨hp.1, x_recv hK hH, hp.2⟩ rfl rfl hl.1 rfl (lv_room hsum) hdg hf)) (fun r h => ?_)
  subst h
  exact k
end MKB
def X_rBut_L6 (st : XS) (j0 : Nat) (a2 : Int32) (a3 : Int32) : Nat → Int32 → Int32 → Option Int32
  | 0, _, _ => none
  | n + 1, x4, x5 =>
    if (100 : Int32) ≤ x5 then
      (some x4)
    else
      (((xg st j0).map fun q => q.2).bind fun v2 =>
      (X_holds st v2 a2 x5 (xi st 7)).bind fun v3 =>
      if v3 = 0 then
        (bs_let (x4 + (0 : Int32)) fun w5 =>
        bs_let (x5 + (1 : Int32)) fun w6 =>
        X_rBut_L6 st j0 a2 a3 n w5 w6)
      else
        (((xg st j0).map fun q => q.2).bind fun v7 =>
        (X_holds st v7 a3 x5 (xi st 7)).bind fun v8 =>
        if v8 = 0 then
          (bs_let (x4 + (1 : Int32)) fun w12 =>
          bs_let (x5 + (1 : Int32)) fun w13 =>
          X_rBut_L6 st j0 a2 a3 n w12 w13)
        else
          (bs_let (x4 + (0 : Int32)) fun w10 =>
          bs_let (x5 + (1 : Int32)) fun w11 =>
          X_rBut_L6 st j0 a2 a3 n w10 w11)))
def X_rBut (st : XS) (j0 : Nat) (a2 : Int32) (a3 : Int32) : Option Int32 :=
  X_rBut_L6 st j0 a2 a3 bs_fu (0 : Int32) (0 : Int32)
def rm_X_rBut : Room := { frames := 6, cells := 0, slots := 0, locals := 260 }
set_option maxHeartbeats 4000000 in
set_option maxRecDepth 100000 in
theorem met_X_rBut (l : Launch) (D : va_G) (ct : Nat → ClassId) (a : XA) (ρ : Option Nat) (sz : Nat) (st : XS) (j0 : Nat) (a2 : Int32) (a3 : Int32) (hj0 : j0 < 11) (z : Int32) (hd : X_rBut st j0 a2 a3 = some z) : Met l yX2_but (ws_ yX2_but cX2_but 6 (some .int)) rm_X_rBut (GPre gEX D ct (xAs a) (WX ct a ρ st) sz [va_rf (ag a j0), .ref (ah a 0), .int a2, .int a3]) (vp_Si (fun r => r = z)) 0 0 (fun _ => False) := by
  refine g_met (cc := cX2_but) (maxL := 6) (ret := (some .int)) (by decide) (by simp [lg_sl, va_rf_cat, vc_int, vc_ref, vc_long]) ?_
  intro p e U m args below meth c ls S hr hlk hK hH hE hsz hl
  have S : CallFix p m c cX2_but 6 U args lw_all RX2 := S
  have hx := S.1
  have hb := S.2.1
  have hl : lv_has ls 6 [(0, va_rf (ag a j0)), (1, .ref (ah a 0)), (2, .int a2), (3, .int a3)] := (by simpa [lv_args, va_rf_cat, vc_int, vc_ref, vc_long] using hl)
  have h6 : ∀ (n6 : Nat) (x4 : Int32) (x5 : Int32) (ls : Array Slot), lv_has ls 6 [(0, va_rf (ag a j0)), (1, .ref (ah a 0)), (2, .int a2), (3, .int a3), (4, .int x4), (5, .int x5)] → X_rBut_L6 st j0 a2 a3 n6 x4 x5 = some z → W p l e rm_X_rBut U m args below meth c U.heap [] 0 0 (MQ below (vp_Si (fun r => r = z)) args U 0 0 (fun _ => False)) (F0 m 6 ls []) := by
    intro n6
    induction n6 with
    | zero =>
      intro x4 x5 ls hl hd
      rw [X_rBut_L6] at hd
      cases hd
    | succ n6 ih6 =>
      intro x4 x5 ls hl hd
      rw [X_rBut_L6] at hd
      refine lv_iload (pc := 6) hx hb dX2_but_6 (lv_at hl 5 rfl) ?_
      refine lv_bipush (v := (100 : Int32)) (pc := 8) hx hb dX2_but_8 (by decide) ?_
      refine lv_icmp_ge (pc := 10) (tgt := 65) hx hb dX2_but_10 (by decide) (fun c1 => ?_) (fun c1 => ?_)
      · have hd := if_t c1 hd
        refine lv_iload (pc := 65) hx hb dX2_but_65 (lv_at hl 4 rfl) ?_
        exact r_iret hd S hr hlk dX2_but_67
      · have hd := if_n c1 hd
        refine lv_iload (pc := 13) hx hb dX2_but_13 (lv_at hl 4 rfl) ?_
        refine lv_aload_n (pc := 15) hx hb dX2_but_15 rfl (lv_at hl 1 rfl) ?_
        refine lv_aload_nO (pc := 16) hx hb dX2_but_16 rfl (lv_at hl 0 rfl) ?_
        obtain ⟨v2, hv2, hd⟩ := bs_bd hd
        refine xg_num (pc := 17) S hE hK hH hj0 hv2 dX2_but_17 ?_
        refine lv_iload_n (pc := 20) hx hb dX2_but_20 rfl (lv_at hl 2 rfl) ?_
        refine lv_iload (pc := 21) hx hb dX2_but_21 (lv_at hl 5 rfl) ?_
        refine lv_aload_n (pc := 23) hx hb dX2_but_23 rfl (lv_at hl 1 rfl) ?_
        refine xg_yearN2 (pc := 24) S hE hK hH dX2_but_24 ?_
        obtain ⟨v3, hv3, hd⟩ := bs_bd hd
        refine call_X_holdsN (pc := 27) S hl hE hK hH hv3 ⟨Nat.le_of_ble_eq_true rfl, Nat.le_of_ble_eq_true rfl⟩ (Nat.le_of_ble_eq_true rfl) dX2_but_27 ⟨Nat.zero_le _, Nat.zero_le _⟩ ?_
        refine lv_if_eq (pc := 30) (tgt := 55) hx hb dX2_but_30 (by decide) (fun c4 => ?_) (fun c4 => ?_)
        · have hd := if_t c4 hd
          refine lv_iconst (v := (0 : Int32)) (pc := 55) hx hb dX2_but_55 (by decide) ?_
          refine lv_iadd (pc := 56) hx hb dX2_but_56 ?_
          obtain ⟨w5, ew5, hd⟩ := bs_let_spec hd
          refine lv_topE (pc := 57) ew5 ?_
          refine lv_istore (pc := 57) (lv' := [(4, .int w5), (0, va_rf (ag a j0)), (1, .ref (ah a 0)), (2, .int a2), (3, .int a3), (5, .int x5)]) hx hb dX2_but_57 hl (by decide) rfl (fun ls hl => ?_)
          obtain ⟨w6, ew6, hd⟩ := bs_let_spec hd
          refine lv_iinc (pc := 59) (v := w6) (lv' := [(5, .int w6), (4, .int w5), (0, va_rf (ag a j0)), (1, .ref (ah a 0)), (2, .int a2), (3, .int a3)]) hx hb dX2_but_59 hl (k := 5) rfl (by rw [ew6]; rfl) (by decide) rfl (fun ls hl => ?_)
          refine lv_goto (pc := 62) (tgt := 6) hx hb dX2_but_62 (by decide) ?_
          exact ih6 w5 w6 _ (lv_sub hl [2, 3, 4, 5, 1, 0] rfl) hd
        · have hd := if_n c4 hd
          refine lv_aload_n (pc := 33) hx hb dX2_but_33 rfl (lv_at hl 1 rfl) ?_
          refine lv_aload_nO (pc := 34) hx hb dX2_but_34 rfl (lv_at hl 0 rfl) ?_
          obtain ⟨v7, hv7, hd⟩ := bs_bd hd
          refine xg_num (pc := 35) S hE hK hH hj0 hv7 dX2_but_35 ?_
          refine lv_iload_n (pc := 38) hx hb dX2_but_38 rfl (lv_at hl 3 rfl) ?_
          refine lv_iload (pc := 39) hx hb dX2_but_39 (lv_at hl 5 rfl) ?_
          refine lv_aload_n (pc := 41) hx hb dX2_but_41 rfl (lv_at hl 1 rfl) ?_
          refine xg_yearN2 (pc := 42) S hE hK hH dX2_but_42 ?_
          obtain ⟨v8, hv8, hd⟩ := bs_bd hd
          refine call_X_holdsN (pc := 45) S hl hE hK hH hv8 ⟨Nat.le_of_ble_eq_true rfl, Nat.le_of_ble_eq_true rfl⟩ (Nat.le_of_ble_eq_true rfl) dX2_but_45 ⟨Nat.zero_le _, Nat.zero_le _⟩ ?_
          refine lv_if_ne (pc := 48) (tgt := 55) hx hb dX2_but_48 (by decide) (fun c9 => ?_) (fun c9 => ?_)
          · have hd := if_n c9 hd
            refine lv_iconst (v := (0 : Int32)) (pc := 55) hx hb dX2_but_55 (by decide) ?_
            refine lv_iadd (pc := 56) hx hb dX2_but_56 ?_
            obtain ⟨w10, ew10, hd⟩ := bs_let_spec hd
            refine lv_topE (pc := 57) ew10 ?_
            refine lv_istore (pc := 57) (lv' := [(4, .int w10), (0, va_rf (ag a j0)), (1, .ref (ah a 0)), (2, .int a2), (3, .int a3), (5, .int x5)]) hx hb dX2_but_57 hl (by decide) rfl (fun ls hl => ?_)
            obtain ⟨w11, ew11, hd⟩ := bs_let_spec hd
            refine lv_iinc (pc := 59) (v := w11) (lv' := [(5, .int w11), (4, .int w10), (0, va_rf (ag a j0)), (1, .ref (ah a 0)), (2, .int a2), (3, .int a3)]) hx hb dX2_but_59 hl (k := 5) rfl (by rw [ew11]; rfl) (by decide) rfl (fun ls hl => ?_)
            refine lv_goto (pc := 62) (tgt := 6) hx hb dX2_but_62 (by decide) ?_
            exact ih6 w10 w11 _ (lv_sub hl [2, 3, 4, 5, 1, 0] rfl) hd
          · have hd := if_t c9 hd
            refine lv_iconst (v := (1 : Int32)) (pc := 51) hx hb dX2_but_51 (by decide) ?_
            refine lv_goto (pc := 52) (tgt := 56) hx hb dX2_but_52 (by decide) ?_
            refine lv_iadd (pc := 56) hx hb dX2_but_56 ?_
            obtain ⟨w12, ew12, hd⟩ := bs_let_spec hd
            refine lv_topE (pc := 57) ew12 ?_
            refine lv_istore (pc := 57) (lv' := [(4, .int w12), (0, va_rf (ag a j0)), (1, .ref (ah a 0)), (2, .int a2), (3, .int a3), (5, .int x5)]) hx hb dX2_but_57 hl (by decide) rfl (fun ls hl => ?_)
            obtain ⟨w13, ew13, hd⟩ := bs_let_spec hd
            refine lv_iinc (pc := 59) (v := w13) (lv' := [(5, .int w13), (4, .int w12), (0, va_rf (ag a j0)), (1, .ref (ah a 0)), (2, .int a2), (3, .int a3)]) hx hb dX2_but_59 hl (k := 5) rfl (by rw [ew13]; rfl) (by decide) rfl (fun ls hl => ?_)
            refine lv_goto (pc := 62) (tgt := 6) hx hb dX2_but_62 (by decide) ?_
            exact ih6 w12 w13 _ (lv_sub hl [2, 3, 4, 5, 1, 0] rfl) hd
  unfold X_rBut at hd
  refine lv_iconst (v := (0 : Int32)) (pc := 0) hx hb dX2_but_0 (by decide) ?_
  refine lv_istore (pc := 1) (lv' := [(4, .int (0 : Int32)), (0, va_rf (ag a j0)), (1, .ref (ah a 0)), (2, .int a2), (3, .int a3)]) hx hb dX2_but_1 hl (by decide) rfl (fun ls hl => ?_)
  refine lv_iconst (v := (0 : Int32)) (pc := 3) hx hb dX2_but_3 (by decide) ?_
  refine lv_istore (pc := 4) (lv' := [(5, .int (0 : Int32)), (4, .int (0 : Int32)), (0, va_rf (ag a j0)), (1, .ref (ah a 0)), (2, .int a2), (3, .int a3)]) hx hb dX2_but_4 hl (by decide) rfl (fun ls hl => ?_)
  exact h6 bs_fu (0 : Int32) (0 : Int32) _ (lv_sub hl [2, 3, 4, 5, 1, 0] rfl) hd
section MKC
variable {p : Program} {l : Launch} {e : Env} {R : Room} {s : State} {m : MethodId} {args : Array Value} {below : List Frame} {meth : Method} {c : Code} {H : Heap} {locs : List Loc} {cells slots : Nat} {Q : State → Prop}
variable {cc bytes : ByteArray} {pc nL maxL idx mc ms sz b kd j : Nat} {num v x y : Int32} {ls : Array Slot} {rest av st0 : List Value} {lv : List (Nat × Value)} {D : va_G} {ct : Nat → ClassId} {A : Nat → Prop} {H0 : Heap} {a : XA} {ρ : Option Nat} {st st1 : XS} {own : String}
theorem call_kind3 (S : CallFix p m c cc nL s args lw_all RX3) (hl : lv_has ls nL lv) (hE : gEX s) (hK : va_K D clA (tysG ct) s) (hH : GH D A (xAs a) H0 (WX ct a ρ st) H locs) (hj : j < 11) (hg0 : xg st j = some (kd, num)) (hk0 : kd = 1 ∨ kd = 4) (hlk : Cond.methodLink RX3 idx yX3_kind ∈ lw_all) (hv : X_rKind st j = some v) (hR : 1 ≤ R.frames ∧ 30 ≤ R.locals) (hsum : (rest.map fun v => v.category).sum ≤ 8) (hdg : decode cc pc = .ok (.invokevirtual idx, 3)) (hf : cells ≤ R.cells ∧ slots ≤ R.slots) (k : W p l e R s m args below meth c H locs cells slots Q (F0 m (pc + 3) ls (.int v :: rest))) : W p l e R s m args below meth c H locs cells slots Q (F0 m pc ls (va_rf (ag a j) :: rest)) := by
  unfold X_rKind at hv
  rw [hg0] at hv
  obtain ⟨q, k0, hq, hk6, hat⟩ := xg_has hH hj hg0
  have hT : GH D (fun _ => True) [q] H (WR kd num q) H locs := rg_world hH.1 hat
  have hb := rg_recv hK hT.1 hk6 (k := 0) rfl
  rw [hq]
  rcases hk0 with rfl | rfl
  · exact o_calli (x := yX3_kind) (owner := RX3) (C := RX3) (av := []) S hl gE_0_ok trivial hK hT (met_X3_kind l D ct q H.size 1 num hk6 v hv) (lw_O hlk q1346 q500 q1348 q500 q82 q501) (q501) rfl rfl ⟨by decide, by decide, by show (parseMethodDescriptor yX3_kind.desc).map (fun d => d.parameters.length) = some 0; decide +kernel⟩ ⟨Nat.le_trans (Nat.le_of_ble_eq_true rfl) hR.1, Nat.le_trans (Nat.le_of_ble_eq_true rfl) hR.2⟩ hb rfl hsum hdg hf k
  · exact o_calli (x := yX3_kind) (owner := RX3) (C := RX6) (av := []) S hl gE_0_ok trivial hK hT (met_X6_kind l D ct q H.size 4 num hk6 v hv) (lw_O hlk q1346 q500 q1347 q497 q85 q498) (q501) rfl rfl ⟨by decide, by decide, by show (parseMethodDescriptor yX3_kind.desc).map (fun d => d.parameters.length) = some 0; decide +kernel⟩ ⟨Nat.le_trans (Nat.le_of_ble_eq_true rfl) hR.1, Nat.le_trans (Nat.le_of_ble_eq_true rfl) hR.2⟩ hb rfl hsum hdg hf k
theorem call_kind4 (S : CallFix p m c cc nL s args lw_all RX4) (hl : lv_has ls nL lv) (hE : gEX s) (hK : va_K D clA (tysG ct) s) (hH : GH D A (xAs a) H0 (WX ct a ρ st) H locs) (hj : j < 11) (hg0 : xg st j = some (kd, num)) (hk0 : kd = 2 ∨ kd = 5) (hlk : Cond.methodLink RX4 idx yX4_kind ∈ lw_all) (hv : X_rKind st j = some v) (hR : 1 ≤ R.frames ∧ 30 ≤ R.locals) (hsum : (rest.map fun v => v.category).sum ≤ 8) (hdg : decode cc pc = .ok (.invokevirtual idx, 3)) (hf : cells ≤ R.cells ∧ slots ≤ R.slots) (k : W p l e R s m args below meth c H locs cells slots Q (F0 m (pc + 3) ls (.int v :: rest))) : W p l e R s m args below meth c H locs cells slots Q (F0 m pc ls (va_rf (ag a j) :: rest)) := by
  unfold X_rKind at hv
  rw [hg0] at hv
  obtain ⟨q, k0, hq, hk6, hat⟩ := xg_has hH hj hg0
  have hT : GH D (fun _ => True) [q] H (WR kd num q) H locs := rg_world hH.1 hat
  have hb := rg_recv hK hT.1 hk6 (k := 0) rfl
  rw [hq]
  rcases hk0 with rfl | rfl
  · exact o_calli (x := yX4_kind) (owner := RX4) (C := RX4) (av := []) S hl gE_0_ok trivial hK hT (met_X4_kind l D ct q H.size 2 num hk6 v hv) (lw_O hlk q1349 q494 q1350 q494 q83 q495) (q495) rfl rfl ⟨by decide, by decide, by show (parseMethodDescriptor yX4_kind.desc).map (fun d => d.parameters.length) = some 0; decide +kernel⟩ ⟨Nat.le_trans (Nat.le_of_ble_eq_true rfl) hR.1, Nat.le_trans (Nat.le_of_ble_eq_true rfl) hR.2⟩ hb rfl hsum hdg hf k
  · exact o_calli (x := yX4_kind) (owner := RX4) (C := RX7) (av := []) S hl gE_0_ok trivial hK hT (met_X7_kind l D ct q H.size 5 num hk6 v hv) (lw_O hlk q1349 q494 q1351 q506 q86 q507) (q495) rfl rfl ⟨by decide, by decide, by show (parseMethodDescriptor yX4_kind.desc).map (fun d => d.parameters.length) = some 0; decide +kernel⟩ ⟨Nat.le_trans (Nat.le_of_ble_eq_true rfl) hR.1, Nat.le_trans (Nat.le_of_ble_eq_true rfl) hR.2⟩ hb rfl hsum hdg hf k
theorem call_but3 (S : CallFix p m c cc nL s args lw_all RX3) (hl : lv_has ls nL lv) (hE : gEX s) (hK : va_K D clA (tysG ct) s) (hH : GH D A (xAs a) H0 (WX ct a ρ st) H locs) (hj : j < 11) (hg0 : xg st j = some (kd, num)) (hk0 : kd = 1 ∨ kd = 4) (hlk : Cond.methodLink RX3 idx ⟨"CapCouncil$Old", "but", "(LCapCouncil;II)I"⟩ ∈ lw_all) (hv : X_rBut st j x y = some v) (hR : 7 ≤ R.frames ∧ 290 ≤ R.locals) (hsum : (rest.map fun v => v.category).sum ≤ 8) (hdg : decode cc pc = .ok (.invokevirtual idx, 3)) (hf : cells ≤ R.cells ∧ slots ≤ R.slots) (k : W p l e R s m args below meth c H locs cells slots Q (F0 m (pc + 3) ls (.int v :: rest))) : W p l e R s m args below meth c H locs cells slots Q (F0 m pc ls (.int y :: .int x :: .ref (ah a 0) :: va_rf (ag a j) :: rest)) := by
  have hM := met_X_rBut l D ct a ρ H.size st j x y hj v hv
  obtain ⟨q, k0, hq, hk6, hat⟩ := xg_has hH hj hg0
  have hb := rg_recv hK hH.1 hk6 hat
  rw [hq] at hM ⊢
  rcases hk0 with rfl | rfl
  · exact o_calli (x := ⟨"CapCouncil$Old", "but", "(LCapCouncil;II)I"⟩) (owner := RX2) (C := RX3) (av := [.ref (ah a 0), .int x, .int y]) S hl gEX_ok hE hK hH hM (lw_O hlk q607 q611 q610 q611 q81 q612) (q612) rfl rfl ⟨by decide, by decide, by show (parseMethodDescriptor yX2_but.desc).map (fun d => d.parameters.length) = some 3; decide +kernel⟩ ⟨by show 6 + 1 ≤ _; omega, by show 8 + (6 + 11) + 260 ≤ _; omega⟩ hb rfl hsum hdg hf k
  · exact o_calli (x := ⟨"CapCouncil$Old", "but", "(LCapCouncil;II)I"⟩) (owner := RX2) (C := RX6) (av := [.ref (ah a 0), .int x, .int y]) S hl gEX_ok hE hK hH hM (lw_O hlk q607 q611 q609 q611 q81 q612) (q612) rfl rfl ⟨by decide, by decide, by show (parseMethodDescriptor yX2_but.desc).map (fun d => d.parameters.length) = some 3; decide +kernel⟩ ⟨by show 6 + 1 ≤ _; omega, by show 8 + (6 + 11) + 260 ≤ _; omega⟩ hb rfl hsum hdg hf k
theorem call_but4 (S : CallFix p m c cc nL s args lw_all RX4) (hl : lv_has ls nL lv) (hE : gEX s) (hK : va_K D clA (tysG ct) s) (hH : GH D A (xAs a) H0 (WX ct a ρ st) H locs) (hj : j < 11) (hg0 : xg st j = some (kd, num)) (hk0 : kd = 2 ∨ kd = 5) (hlk : Cond.methodLink RX4 idx ⟨"CapCouncil$Arc", "but", "(LCapCouncil;II)I"⟩ ∈ lw_all) (hv : X_rBut st j x y = some v) (hR : 7 ≤ R.frames ∧ 290 ≤ R.locals) (hsum : (rest.map fun v => v.category).sum ≤ 8) (hdg : decode cc pc = .ok (.invokevirtual idx, 3)) (hf : cells ≤ R.cells ∧ slots ≤ R.slots) (k : W p l e R s m args below meth c H locs cells slots Q (F0 m (pc + 3) ls (.int v :: rest))) : W p l e R s m args below meth c H locs cells slots Q (F0 m pc ls (.int y :: .int x :: .ref (ah a 0) :: va_rf (ag a j) :: rest)) := by
  have hM := met_X_rBut l D ct a ρ H.size st j x y hj v hv
  obtain ⟨q, k0, hq, hk6, hat⟩ := xg_has hH hj hg0
  have hb := rg_recv hK hH.1 hk6 hat
  rw [hq] at hM ⊢
  rcases hk0 with rfl | rfl
  · exact o_calli (x := ⟨"CapCouncil$Arc", "but", "(LCapCouncil;II)I"⟩) (owner := RX2) (C := RX4) (av := [.ref (ah a 0), .int x, .int y]) S hl gEX_ok hE hK hH hM (lw_O hlk q625 q611 q626 q611 q81 q612) (q612) rfl rfl ⟨by decide, by decide, by show (parseMethodDescriptor yX2_but.desc).map (fun d => d.parameters.length) = some 3; decide +kernel⟩ ⟨by show 6 + 1 ≤ _; omega, by show 8 + (6 + 11) + 260 ≤ _; omega⟩ hb rfl hsum hdg hf k
  · exact o_calli (x := ⟨"CapCouncil$Arc", "but", "(LCapCouncil;II)I"⟩) (owner := RX2) (C := RX7) (av := [.ref (ah a 0), .int x, .int y]) S hl gEX_ok hE hK hH hM (lw_O hlk q625 q611 q627 q611 q81 q612) (q612) rfl rfl ⟨by decide, by decide, by show (parseMethodDescriptor yX2_but.desc).map (fun d => d.parameters.length) = some 3; decide +kernel⟩ ⟨by show 6 + 1 ≤ _; omega, by show 8 + (6 + 11) + 260 ≤ _; omega⟩ hb rfl hsum hdg hf k
theorem call_but6 (S : CallFix p m c cc nL s args lw_all RX6) (hl : lv_has ls nL lv) (hE : gEX s) (hK : va_K D clA (tysG ct) s) (hH : GH D A (xAs a) H0 (WX ct a ρ st) H locs) (hj : j < 11) (hg0 : xg st j = some (kd, num)) (hk0 : kd = 4) (hlk : Cond.methodLink RX6 idx ⟨"CapCouncil$Death", "but", "(LCapCouncil;II)I"⟩ ∈ lw_all) (hv : X_rBut st j x y = some v) (hR : 7 ≤ R.frames ∧ 290 ≤ R.locals) (hsum : (rest.map fun v => v.category).sum ≤ 8) (hdg : decode cc pc = .ok (.invokevirtual idx, 3)) (hf : cells ≤ R.cells ∧ slots ≤ R.slots) (k : W p l e R s m args below meth c H locs cells slots Q (F0 m (pc + 3) ls (.int v :: rest))) : W p l e R s m args below meth c H locs cells slots Q (F0 m pc ls (.int y :: .int x :: .ref (ah a 0) :: va_rf (ag a j) :: rest)) := by
  have hM := met_X_rBut l D ct a ρ H.size st j x y hj v hv
  obtain ⟨q, k0, hq, hk6, hat⟩ := xg_has hH hj hg0
  have hb := rg_recv hK hH.1 hk6 hat
  rw [hq] at hM ⊢
  rcases hk0 with rfl
  · exact o_calli (x := ⟨"CapCouncil$Death", "but", "(LCapCouncil;II)I"⟩) (owner := RX2) (C := RX6) (av := [.ref (ah a 0), .int x, .int y]) S hl gEX_ok hE hK hH hM (lw_O hlk q637 q611 q638 q611 q81 q612) (q612) rfl rfl ⟨by decide, by decide, by show (parseMethodDescriptor yX2_but.desc).map (fun d => d.parameters.length) = some 3; decide +kernel⟩ ⟨by show 6 + 1 ≤ _; omega, by show 8 + (6 + 11) + 260 ≤ _; omega⟩ hb rfl hsum hdg hf k
theorem call_but7 (S : CallFix p m c cc nL s args lw_all RX7) (hl : lv_has ls nL lv) (hE : gEX s) (hK : va_K D clA (tysG ct) s) (hH : GH D A (xAs a) H0 (WX ct a ρ st) H locs) (hj : j < 11) (hg0 : xg st j = some (kd, num)) (hk0 : kd = 5) (hlk : Cond.methodLink RX7 idx ⟨"CapCouncil$Whole", "but", "(LCapCouncil;II)I"⟩ ∈ lw_all) (hv : X_rBut st j x y = some v) (hR : 7 ≤ R.frames ∧ 290 ≤ R.locals) (hsum : (rest.map fun v => v.category).sum ≤ 8) (hdg : decode cc pc = .ok (.invokevirtual idx, 3)) (hf : cells ≤ R.cells ∧ slots ≤ R.slots) (k : W p l e R s m args below meth c H locs cells slots Q (F0 m (pc + 3) ls (.int v :: rest))) : W p l e R s m args below meth c H locs cells slots Q (F0 m pc ls (.int y :: .int x :: .ref (ah a 0) :: va_rf (ag a j) :: rest)) := by
  have hM := met_X_rBut l D ct a ρ H.size st j x y hj v hv
  obtain ⟨q, k0, hq, hk6, hat⟩ := xg_has hH hj hg0
  have hb := rg_recv hK hH.1 hk6 hat
  rw [hq] at hM ⊢
  rcases hk0 with rfl
  · exact o_calli (x := ⟨"CapCouncil$Whole", "but", "(LCapCouncil;II)I"⟩) (owner := RX2) (C := RX7) (av := [.ref (ah a 0), .int x, .int y]) S hl gEX_ok hE hK hH hM (lw_O hlk q644 q611 q645 q611 q81 q612) (q612) rfl rfl ⟨by decide, by decide, by show (parseMethodDescriptor yX2_but.desc).map (fun d => d.parameters.length) = some 3; decide +kernel⟩ ⟨by show 6 + 1 ≤ _; omega, by show 8 + (6 + 11) + 260 ≤ _; omega⟩ hb rfl hsum hdg hf k
end MKC
def X_bald (st : XS) (j0 : Nat) : Option Int32 :=
  (X_rKind st j0).bind fun v1 =>
  (X_rBut st j0 (0 : Int32) v1).bind fun v2 =>
  some v2
def rm_X_bald : Room := { frames := 8, cells := 0, slots := 0, locals := 300 }
set_option maxHeartbeats 4000000 in
set_option maxRecDepth 100000 in
theorem met_X_bald (l : Launch) (D : va_G) (ct : Nat → ClassId) (a : XA) (ρ : Option Nat) (sz : Nat) (st : XS) (j0 : Nat) (hj0 : j0 < 11) (kd : Nat) (num : Int32) (hg0 : xg st j0 = some (kd, num)) (hk0 : kd = 1 ∨ kd = 4) (z : Int32) (hd : X_bald st j0 = some z) : Met l yX3_bald (ws_ yX3_bald cX3_bald 2 (some .int)) rm_X_bald (GPre gEX D ct (xAs a) (WX ct a ρ st) sz [va_rf (ag a j0), .ref (ah a 0)]) (vp_Si (fun r => r = z)) 0 0 (fun _ => False) := by
  refine g_met (cc := cX3_bald) (maxL := 2) (ret := (some .int)) (by decide) (by simp [lg_sl, va_rf_cat, vc_int, vc_ref, vc_long]) ?_
  intro p e U m args below meth c ls S hr hlk hK hH hE hsz hl
  have S : CallFix p m c cX3_bald 2 U args lw_all RX3 := S
  have hx := S.1
  have hb := S.2.1
  have hl : lv_has ls 2 [(0, va_rf (ag a j0)), (1, .ref (ah a 0))] := (by simpa [lv_args, va_rf_cat, vc_int, vc_ref, vc_long] using hl)
  unfold X_bald at hd
  refine lv_aload_nO (pc := 0) hx hb dX3_bald_0 rfl (lv_at hl 0 rfl) ?_
  refine lv_aload_n (pc := 1) hx hb dX3_bald_1 rfl (lv_at hl 1 rfl) ?_
  refine lv_iconst (v := (0 : Int32)) (pc := 2) hx hb dX3_bald_2 (by decide) ?_
  refine lv_aload_nO (pc := 3) hx hb dX3_bald_3 rfl (lv_at hl 0 rfl) ?_
  obtain ⟨v1, hv1, hd⟩ := bs_bd hd
  refine call_kind3 (pc := 4) S hl hE hK hH hj0 hg0 hk0 q605 hv1 ⟨Nat.le_of_ble_eq_true rfl, Nat.le_of_ble_eq_true rfl⟩ (by simp [va_rf_cat, vc_int, vc_ref, vc_long]) dX3_bald_4 ⟨Nat.zero_le _, Nat.zero_le _⟩ ?_
  obtain ⟨v2, hv2, hd⟩ := bs_bd hd
  refine call_but3 (pc := 7) S hl hE hK hH hj0 hg0 hk0 q606 hv2 ⟨Nat.le_of_ble_eq_true rfl, Nat.le_of_ble_eq_true rfl⟩ (Nat.le_of_ble_eq_true rfl) dX3_bald_7 ⟨Nat.zero_le _, Nat.zero_le _⟩ ?_
  exact r_iret hd S hr hlk dX3_bald_10
def X_gap (st : XS) (j0 : Nat) : Option Int32 :=
  (X_rKind st j0).bind fun v1 =>
  (X_rBut st j0 (0 : Int32) v1).bind fun v2 =>
  some v2
def rm_X_gap : Room := { frames := 8, cells := 0, slots := 0, locals := 300 }
set_option maxHeartbeats 4000000 in
set_option maxRecDepth 100000 in
theorem met_X_gap (l : Launch) (D : va_G) (ct : Nat → ClassId) (a : XA) (ρ : Option Nat) (sz : Nat) (st : XS) (j0 : Nat) (hj0 : j0 < 11) (kd : Nat) (num : Int32) (hg0 : xg st j0 = some (kd, num)) (hk0 : kd = 2 ∨ kd = 5) (z : Int32) (hd : X_gap st j0 = some z) : Met l yX4_gap (ws_ yX4_gap cX4_gap 2 (some .int)) rm_X_gap (GPre gEX D ct (xAs a) (WX ct a ρ st) sz [va_rf (ag a j0), .ref (ah a 0)]) (vp_Si (fun r => r = z)) 0 0 (fun _ => False) := by
  refine g_met (cc := cX4_gap) (maxL := 2) (ret := (some .int)) (by decide) (by simp [lg_sl, va_rf_cat, vc_int, vc_ref, vc_long]) ?_
  intro p e U m args below meth c ls S hr hlk hK hH hE hsz hl
  have S : CallFix p m c cX4_gap 2 U args lw_all RX4 := S
  have hx := S.1
  have hb := S.2.1
  have hl : lv_has ls 2 [(0, va_rf (ag a j0)), (1, .ref (ah a 0))] := (by simpa [lv_args, va_rf_cat, vc_int, vc_ref, vc_long] using hl)
  unfold X_gap at hd
  refine lv_aload_nO (pc := 0) hx hb dX4_gap_0 rfl (lv_at hl 0 rfl) ?_
  refine lv_aload_n (pc := 1) hx hb dX4_gap_1 rfl (lv_at hl 1 rfl) ?_
  refine lv_iconst (v := (0 : Int32)) (pc := 2) hx hb dX4_gap_2 (by decide) ?_
  refine lv_aload_nO (pc := 3) hx hb dX4_gap_3 rfl (lv_at hl 0 rfl) ?_
  obtain ⟨v1, hv1, hd⟩ := bs_bd hd
  refine call_kind4 (pc := 4) S hl hE hK hH hj0 hg0 hk0 q623 hv1 ⟨Nat.le_of_ble_eq_true rfl, Nat.le_of_ble_eq_true rfl⟩ (by simp [va_rf_cat, vc_int, vc_ref, vc_long]) dX4_gap_4 ⟨Nat.zero_le _, Nat.zero_le _⟩ ?_
  obtain ⟨v2, hv2, hd⟩ := bs_bd hd
  refine call_but4 (pc := 7) S hl hE hK hH hj0 hg0 hk0 q624 hv2 ⟨Nat.le_of_ble_eq_true rfl, Nat.le_of_ble_eq_true rfl⟩ (Nat.le_of_ble_eq_true rfl) dX4_gap_7 ⟨Nat.zero_le _, Nat.zero_le _⟩ ?_
  exact r_iret hd S hr hlk dX4_gap_10
def X_adjourned (st : XS) (j0 : Nat) : Option Int32 :=
  some ((xi st 7) - (xi st 7) / (2 : Int32) * (2 : Int32))
def rm_X_adjourned : Room := { frames := 0, cells := 0, slots := 0, locals := 20 }
set_option maxHeartbeats 4000000 in
set_option maxRecDepth 100000 in
theorem met_X_adjourned (l : Launch) (D : va_G) (ct : Nat → ClassId) (a : XA) (ρ : Option Nat) (sz : Nat) (st : XS) (j0 : Nat) (hj0 : j0 < 11) (z : Int32) (hd : X_adjourned st j0 = some z) : Met l yX5_adjourned (ws_ yX5_adjourned cX5_adjourned 2 (some .int)) rm_X_adjourned (GPre gEX D ct (xAs a) (WX ct a ρ st) sz [va_rf (ag a j0), .ref (ah a 0)]) (vp_Si (fun r => r = z)) 0 0 (fun _ => False) := by
  refine g_met (cc := cX5_adjourned) (maxL := 2) (ret := (some .int)) (by decide) (by simp [lg_sl, va_rf_cat, vc_int, vc_ref, vc_long]) ?_
  intro p e U m args below meth c ls S hr hlk hK hH hE hsz hl
  have S : CallFix p m c cX5_adjourned 2 U args lw_all RX5 := S
  have hx := S.1
  have hb := S.2.1
  have hl : lv_has ls 2 [(0, va_rf (ag a j0)), (1, .ref (ah a 0))] := (by simpa [lv_args, va_rf_cat, vc_int, vc_ref, vc_long] using hl)
  unfold X_adjourned at hd
  refine lv_aload_n (pc := 0) hx hb dX5_adjourned_0 rfl (lv_at hl 1 rfl) ?_
  refine xg_yearN5 (pc := 1) S hE hK hH dX5_adjourned_1 ?_
  refine lv_iconst (v := (2 : Int32)) (pc := 4) hx hb dX5_adjourned_4 (by decide) ?_
  refine lv_irem (pc := 5) hx hb dX5_adjourned_5 (by decide) ?_
  exact r_iret hd S hr hlk dX5_adjourned_6
def X_edge (st : XS) (j0 : Nat) : Option Int32 :=
  (X_rBut st j0 (1 : Int32) (4 : Int32)).bind fun v1 =>
  some v1
def rm_X_edge : Room := { frames := 8, cells := 0, slots := 0, locals := 300 }
set_option maxHeartbeats 4000000 in
set_option maxRecDepth 100000 in
theorem met_X_edge (l : Launch) (D : va_G) (ct : Nat → ClassId) (a : XA) (ρ : Option Nat) (sz : Nat) (st : XS) (j0 : Nat) (hj0 : j0 < 11) (kd : Nat) (num : Int32) (hg0 : xg st j0 = some (kd, num)) (hk0 : kd = 4) (z : Int32) (hd : X_edge st j0 = some z) : Met l yX6_edge (ws_ yX6_edge cX6_edge 2 (some .int)) rm_X_edge (GPre gEX D ct (xAs a) (WX ct a ρ st) sz [va_rf (ag a j0), .ref (ah a 0)]) (vp_Si (fun r => r = z)) 0 0 (fun _ => False) := by
  refine g_met (cc := cX6_edge) (maxL := 2) (ret := (some .int)) (by decide) (by simp [lg_sl, va_rf_cat, vc_int, vc_ref, vc_long]) ?_
  intro p e U m args below meth c ls S hr hlk hK hH hE hsz hl
  have S : CallFix p m c cX6_edge 2 U args lw_all RX6 := S
  have hx := S.1
  have hb := S.2.1
  have hl : lv_has ls 2 [(0, va_rf (ag a j0)), (1, .ref (ah a 0))] := (by simpa [lv_args, va_rf_cat, vc_int, vc_ref, vc_long] using hl)
  unfold X_edge at hd
  refine lv_aload_nO (pc := 0) hx hb dX6_edge_0 rfl (lv_at hl 0 rfl) ?_
  refine lv_aload_n (pc := 1) hx hb dX6_edge_1 rfl (lv_at hl 1 rfl) ?_
  refine lv_iconst (v := (1 : Int32)) (pc := 2) hx hb dX6_edge_2 (by decide) ?_
  refine lv_iconst (v := (4 : Int32)) (pc := 3) hx hb dX6_edge_3 (by decide) ?_
  obtain ⟨v1, hv1, hd⟩ := bs_bd hd
  refine call_but6 (pc := 4) S hl hE hK hH hj0 hg0 hk0 q636 hv1 ⟨Nat.le_of_ble_eq_true rfl, Nat.le_of_ble_eq_true rfl⟩ (Nat.le_of_ble_eq_true rfl) dX6_edge_4 ⟨Nat.zero_le _, Nat.zero_le _⟩ ?_
  exact r_iret hd S hr hlk dX6_edge_7
def X_heart (st : XS) (j0 : Nat) : Option Int32 :=
  (X_rBut st j0 (5 : Int32) (2 : Int32)).bind fun v1 =>
  some v1
def rm_X_heart : Room := { frames := 8, cells := 0, slots := 0, locals := 300 }
set_option maxHeartbeats 4000000 in
set_option maxRecDepth 100000 in
theorem met_X_heart (l : Launch) (D : va_G) (ct : Nat → ClassId) (a : XA) (ρ : Option Nat) (sz : Nat) (st : XS) (j0 : Nat) (hj0 : j0 < 11) (kd : Nat) (num : Int32) (hg0 : xg st j0 = some (kd, num)) (hk0 : kd = 5) (z : Int32) (hd : X_heart st j0 = some z) : Met l yX7_heart (ws_ yX7_heart cX7_heart 2 (some .int)) rm_X_heart (GPre gEX D ct (xAs a) (WX ct a ρ st) sz [va_rf (ag a j0), .ref (ah a 0)]) (vp_Si (fun r => r = z)) 0 0 (fun _ => False) := by
  refine g_met (cc := cX7_heart) (maxL := 2) (ret := (some .int)) (by decide) (by simp [lg_sl, va_rf_cat, vc_int, vc_ref, vc_long]) ?_
  intro p e U m args below meth c ls S hr hlk hK hH hE hsz hl
  have S : CallFix p m c cX7_heart 2 U args lw_all RX7 := S
  have hx := S.1
  have hb := S.2.1
  have hl : lv_has ls 2 [(0, va_rf (ag a j0)), (1, .ref (ah a 0))] := (by simpa [lv_args, va_rf_cat, vc_int, vc_ref, vc_long] using hl)
  unfold X_heart at hd
  refine lv_aload_nO (pc := 0) hx hb dX7_heart_0 rfl (lv_at hl 0 rfl) ?_
  refine lv_aload_n (pc := 1) hx hb dX7_heart_1 rfl (lv_at hl 1 rfl) ?_
  refine lv_iconst (v := (5 : Int32)) (pc := 2) hx hb dX7_heart_2 (by decide) ?_
  refine lv_iconst (v := (2 : Int32)) (pc := 3) hx hb dX7_heart_3 (by decide) ?_
  obtain ⟨v1, hv1, hd⟩ := bs_bd hd
  refine call_but7 (pc := 4) S hl hE hK hH hj0 hg0 hk0 q643 hv1 ⟨Nat.le_of_ble_eq_true rfl, Nat.le_of_ble_eq_true rfl⟩ (Nat.le_of_ble_eq_true rfl) dX7_heart_4 ⟨Nat.zero_le _, Nat.zero_le _⟩ ?_
  exact r_iret hd S hr hlk dX7_heart_7
section MKD
variable {p : Program} {l : Launch} {e : Env} {R : Room} {s : State} {m : MethodId} {args : Array Value} {below : List Frame} {meth : Method} {c : Code} {H : Heap} {locs : List Loc} {cells slots : Nat} {Q : State → Prop}
variable {cc bytes : ByteArray} {pc nL maxL idx mc ms sz b kd j : Nat} {num v x y : Int32} {ls : Array Slot} {rest av st0 : List Value} {lv : List (Nat × Value)} {D : va_G} {ct : Nat → ClassId} {A : Nat → Prop} {H0 : Heap} {a : XA} {ρ : Option Nat} {st st1 : XS} {own : String}
theorem call_bald (S : CallFix p m c cc nL s args lw_all own) (hl : lv_has ls nL lv) (hE : gEX s) (hK : va_K D clA (tysG ct) s) (hH : GH D A (xAs a) H0 (WX ct a ρ st) H locs) (hj : j < 11) {g : Nat × Int32} (hg0 : xg st j = some g) (hk0 : g.1 = 1 ∨ g.1 = 4) (hlk : Cond.methodLink own idx yX3_bald ∈ lw_all) (hv : X_bald st j = some v) (hR : 9 ≤ R.frames ∧ 321 ≤ R.locals) (hsum : (rest.map fun v => v.category).sum ≤ 8) (hdg : decode cc pc = .ok (.invokevirtual idx, 3)) (hf : cells ≤ R.cells ∧ slots ≤ R.slots) (k : W p l e R s m args below meth c H locs cells slots Q (F0 m (pc + 3) ls (.int v :: rest))) : W p l e R s m args below meth c H locs cells slots Q (F0 m pc ls (.ref (ah a 0) :: va_rf (ag a j) :: rest)) := by
  obtain ⟨kd, num⟩ := g
  have hk0 : kd = 1 ∨ kd = 4 := hk0
  have hM := met_X_bald l D ct a ρ H.size st j hj kd num hg0 hk0 v hv
  obtain ⟨q, k0, hq, hk6, hat⟩ := xg_has hH hj hg0
  have hb := rg_recv hK hH.1 hk6 hat
  rw [hq] at hM ⊢
  rcases hk0 with rfl | rfl
  · exact r_calli (C := RX3) (av := [.ref (ah a 0)]) S hl gEX_ok hE hK hH hM (lw_V hlk q600 q601 q82 q604) rfl rfl ⟨rfl, by decide, by decide, by show (parseMethodDescriptor yX3_bald.desc).map (fun d => d.parameters.length) = some 1; decide +kernel⟩ ⟨by show 8 + 1 ≤ _; omega, by show 8 + (2 + 11) + 300 ≤ _; omega⟩ hb rfl hsum hdg hf k
  · exact o_calli (x := yX3_bald) (owner := RX3) (C := RX6) (av := [.ref (ah a 0)]) S hl gEX_ok hE hK hH hM (lw_O hlk q602 q600 q603 q600 q82 q604) (q604) rfl rfl ⟨by decide, by decide, by show (parseMethodDescriptor yX3_bald.desc).map (fun d => d.parameters.length) = some 1; decide +kernel⟩ ⟨by show 8 + 1 ≤ _; omega, by show 8 + (2 + 11) + 300 ≤ _; omega⟩ hb rfl hsum hdg hf k
theorem call_gap (S : CallFix p m c cc nL s args lw_all own) (hl : lv_has ls nL lv) (hE : gEX s) (hK : va_K D clA (tysG ct) s) (hH : GH D A (xAs a) H0 (WX ct a ρ st) H locs) (hj : j < 11) {g : Nat × Int32} (hg0 : xg st j = some g) (hk0 : g.1 = 2 ∨ g.1 = 5) (hlk : Cond.methodLink own idx yX4_gap ∈ lw_all) (hv : X_gap st j = some v) (hR : 9 ≤ R.frames ∧ 321 ≤ R.locals) (hsum : (rest.map fun v => v.category).sum ≤ 8) (hdg : decode cc pc = .ok (.invokevirtual idx, 3)) (hf : cells ≤ R.cells ∧ slots ≤ R.slots) (k : W p l e R s m args below meth c H locs cells slots Q (F0 m (pc + 3) ls (.int v :: rest))) : W p l e R s m args below meth c H locs cells slots Q (F0 m pc ls (.ref (ah a 0) :: va_rf (ag a j) :: rest)) := by
  obtain ⟨kd, num⟩ := g
  have hk0 : kd = 2 ∨ kd = 5 := hk0
  have hM := met_X_gap l D ct a ρ H.size st j hj kd num hg0 hk0 v hv
  obtain ⟨q, k0, hq, hk6, hat⟩ := xg_has hH hj hg0
  have hb := rg_recv hK hH.1 hk6 hat
  rw [hq] at hM ⊢
  rcases hk0 with rfl | rfl
  · exact r_calli (C := RX4) (av := [.ref (ah a 0)]) S hl gEX_ok hE hK hH hM (lw_V hlk q618 q619 q83 q622) rfl rfl ⟨rfl, by decide, by decide, by show (parseMethodDescriptor yX4_gap.desc).map (fun d => d.parameters.length) = some 1; decide +kernel⟩ ⟨by show 8 + 1 ≤ _; omega, by show 8 + (2 + 11) + 300 ≤ _; omega⟩ hb rfl hsum hdg hf k
  · exact o_calli (x := yX4_gap) (owner := RX4) (C := RX7) (av := [.ref (ah a 0)]) S hl gEX_ok hE hK hH hM (lw_O hlk q620 q618 q621 q618 q83 q622) (q622) rfl rfl ⟨by decide, by decide, by show (parseMethodDescriptor yX4_gap.desc).map (fun d => d.parameters.length) = some 1; decide +kernel⟩ ⟨by show 8 + 1 ≤ _; omega, by show 8 + (2 + 11) + 300 ≤ _; omega⟩ hb rfl hsum hdg hf k
theorem call_adjourned (S : CallFix p m c cc nL s args lw_all own) (hl : lv_has ls nL lv) (hE : gEX s) (hK : va_K D clA (tysG ct) s) (hH : GH D A (xAs a) H0 (WX ct a ρ st) H locs) (hj : j < 11) {g : Nat × Int32} (hg0 : xg st j = some g) (hk0 : g.1 = 3) (hlk : Cond.methodLink own idx yX5_adjourned ∈ lw_all) (hv : X_adjourned st j = some v) (hR : 1 ≤ R.frames ∧ 41 ≤ R.locals) (hsum : (rest.map fun v => v.category).sum ≤ 8) (hdg : decode cc pc = .ok (.invokevirtual idx, 3)) (hf : cells ≤ R.cells ∧ slots ≤ R.slots) (k : W p l e R s m args below meth c H locs cells slots Q (F0 m (pc + 3) ls (.int v :: rest))) : W p l e R s m args below meth c H locs cells slots Q (F0 m pc ls (.ref (ah a 0) :: va_rf (ag a j) :: rest)) := by
  obtain ⟨kd, num⟩ := g
  have hk0 : kd = 3 := hk0
  have hM := met_X_adjourned l D ct a ρ H.size st j hj v hv
  obtain ⟨q, k0, hq, hk6, hat⟩ := xg_has hH hj hg0
  have hb := rg_recv hK hH.1 hk6 hat
  rw [hq] at hM ⊢
  rcases hk0 with rfl
  exact r_calli (C := RX5) (av := [.ref (ah a 0)]) S hl gEX_ok hE hK hH hM (lw_V hlk q629 q630 q84 q631) rfl rfl ⟨rfl, by decide, by decide, by show (parseMethodDescriptor yX5_adjourned.desc).map (fun d => d.parameters.length) = some 1; decide +kernel⟩ ⟨by show 0 + 1 ≤ _; omega, by show 8 + (2 + 11) + 20 ≤ _; omega⟩ hb rfl hsum hdg hf k
theorem call_edge (S : CallFix p m c cc nL s args lw_all own) (hl : lv_has ls nL lv) (hE : gEX s) (hK : va_K D clA (tysG ct) s) (hH : GH D A (xAs a) H0 (WX ct a ρ st) H locs) (hj : j < 11) {g : Nat × Int32} (hg0 : xg st j = some g) (hk0 : g.1 = 4) (hlk : Cond.methodLink own idx yX6_edge ∈ lw_all) (hv : X_edge st j = some v) (hR : 9 ≤ R.frames ∧ 321 ≤ R.locals) (hsum : (rest.map fun v => v.category).sum ≤ 8) (hdg : decode cc pc = .ok (.invokevirtual idx, 3)) (hf : cells ≤ R.cells ∧ slots ≤ R.slots) (k : W p l e R s m args below meth c H locs cells slots Q (F0 m (pc + 3) ls (.int v :: rest))) : W p l e R s m args below meth c H locs cells slots Q (F0 m pc ls (.ref (ah a 0) :: va_rf (ag a j) :: rest)) := by
  obtain ⟨kd, num⟩ := g
  have hk0 : kd = 4 := hk0
  have hM := met_X_edge l D ct a ρ H.size st j hj kd num hg0 hk0 v hv
  obtain ⟨q, k0, hq, hk6, hat⟩ := xg_has hH hj hg0
  have hb := rg_recv hK hH.1 hk6 hat
  rw [hq] at hM ⊢
  rcases hk0 with rfl
  exact r_calli (C := RX6) (av := [.ref (ah a 0)]) S hl gEX_ok hE hK hH hM (lw_V hlk q633 q634 q85 q635) rfl rfl ⟨rfl, by decide, by decide, by show (parseMethodDescriptor yX6_edge.desc).map (fun d => d.parameters.length) = some 1; decide +kernel⟩ ⟨by show 8 + 1 ≤ _; omega, by show 8 + (2 + 11) + 300 ≤ _; omega⟩ hb rfl hsum hdg hf k
theorem call_heart (S : CallFix p m c cc nL s args lw_all own) (hl : lv_has ls nL lv) (hE : gEX s) (hK : va_K D clA (tysG ct) s) (hH : GH D A (xAs a) H0 (WX ct a ρ st) H locs) (hj : j < 11) {g : Nat × Int32} (hg0 : xg st j = some g) (hk0 : g.1 = 5) (hlk : Cond.methodLink own idx yX7_heart ∈ lw_all) (hv : X_heart st j = some v) (hR : 9 ≤ R.frames ∧ 321 ≤ R.locals) (hsum : (rest.map fun v => v.category).sum ≤ 8) (hdg : decode cc pc = .ok (.invokevirtual idx, 3)) (hf : cells ≤ R.cells ∧ slots ≤ R.slots) (k : W p l e R s m args below meth c H locs cells slots Q (F0 m (pc + 3) ls (.int v :: rest))) : W p l e R s m args below meth c H locs cells slots Q (F0 m pc ls (.ref (ah a 0) :: va_rf (ag a j) :: rest)) := by
  obtain ⟨kd, num⟩ := g
  have hk0 : kd = 5 := hk0
  have hM := met_X_heart l D ct a ρ H.size st j hj kd num hg0 hk0 v hv
  obtain ⟨q, k0, hq, hk6, hat⟩ := xg_has hH hj hg0
  have hb := rg_recv hK hH.1 hk6 hat
  rw [hq] at hM ⊢
  rcases hk0 with rfl
  exact r_calli (C := RX7) (av := [.ref (ah a 0)]) S hl gEX_ok hE hK hH hM (lw_V hlk q640 q641 q86 q642) rfl rfl ⟨rfl, by decide, by decide, by show (parseMethodDescriptor yX7_heart.desc).map (fun d => d.parameters.length) = some 1; decide +kernel⟩ ⟨by show 8 + 1 ≤ _; omega, by show 8 + (2 + 11) + 300 ≤ _; omega⟩ hb rfl hsum hdg hf k
theorem ca_ord {nm : String} {cC : ClassId} (h : ClassAt s nm cC) {i : ClassId} {k : Class} (h1 : s.vm.findClass nm = some i) (h2 : s.vm.classes[i]? = some k) : k.kind = .ordinary := by
  obtain ⟨e1, k', e2, e3⟩ := h
  cases e1.symm.trans h1
  cases e2.symm.trans h2
  exact e3
theorem xck_3 (S : CallFix p m c cc nL s args lw_all own) (hE : gEX s) (hK : va_K D clA (tysG ct) s) (hH : GH D A (xAs a) H0 (WX ct a ρ st) H locs) (hj : j < 11) {g : Nat × Int32} (hg0 : xg st j = some g) (hk0 : g.1 = 1 ∨ g.1 = 4) (hlk : Cond.classLink own idx "CapCouncil$Old" ∈ lw_all) (hdg : decode cc pc = .ok (.checkcast idx, 3)) (k : W p l e R s m args below meth c H locs cells slots Q (F0 m (pc + 3) ls (va_rf (ag a j) :: rest))) : W p l e R s m args below meth c H locs cells slots Q (F0 m pc ls (va_rf (ag a j) :: rest)) := by
  obtain ⟨kd, num⟩ := g
  have hk0 : kd = 1 ∨ kd = 4 := hk0
  obtain ⟨q, k0, hq, hk6, hat⟩ := xg_has hH hj hg0
  have hb := rg_recv hK hH.1 hk6 hat
  have hcl := rg_at hK hk6
  rw [hq] at k ⊢
  rcases hk0 with rfl | rfl
  · exact va_castS S.1 S.2.1 S.2.2.2.1 (S.2.2.2.2 _ hlk) hcl hb hdg k
  · exact va_castY S.1 S.2.1 S.2.2.2.1 (S.2.2.2.2 _ hlk) (hE.1 _ (List.mem_of_getElem? (i := 17) rfl)) hb hdg k
theorem xck_3Z (S : CallFix p m c cc nL s args lw_all own) (hE : gEX s) (hM : modulesRight_1 s = true) (hK : va_K D clA (tysG ct) s) (hH : GH D A (xAs a) H0 (WX ct a ρ st) H locs) (hj : j < 11) {g : Nat × Int32} (hg0 : xg st j = some g) (hk0 : ¬ (g.1 = 1 ∨ g.1 = 4)) (hlk : Cond.classLink own idx "CapCouncil$Old" ∈ lw_all) (hdg : decode cc pc = .ok (.checkcast idx, 3)) (k : ∀ tx : String, tx.toList.length ≤ 240 → (tx == notModelled) = false → vx_Note p l e R s m args below meth c H locs cells slots Q (F0 m pc ls (va_rf (ag a j) :: rest)) "java/lang/ClassCastException" tx) : W p l e R s m args below meth c H locs cells slots Q (F0 m pc ls (va_rf (ag a j) :: rest)) := by
  obtain ⟨kd, num⟩ := g
  have hk0 : ¬ (kd = 1 ∨ kd = 4) := hk0
  obtain ⟨q, k0, hq, hk6, hat⟩ := xg_has hH hj hg0
  have hb := rg_recv hK hH.1 hk6 hat
  have o2 : ∀ (i : ClassId) (k : Class), s.vm.findClass "CapCouncil$Old" = some i → s.vm.classes[i]? = some k → k.kind = .ordinary := fun i k h1 h2 => ca_ord (rg_at hK (kd := 1) (by decide)) h1 h2
  have o1 : ∀ (i : ClassId) (k : Class), s.vm.findClass (rgC kd).1 = some i → s.vm.classes[i]? = some k → k.kind = .ordinary := fun i k h1 h2 => ca_ord (rg_at hK hk6) h1 h2
  rw [hq] at k ⊢
  match kd, hk6, hk0, hb, o1 with
  | 0, _, _, hb, o1 => exact vx_ckcastZ (C := RX2) S.1 S.2.1 S.2.2.2.1 (S.2.2.2.2 _ hlk) (hE.2.1 _ (List.mem_of_getElem? (i := 2) rfl)) hM (by decide) (by decide) hb o1 o2 hdg k
  | 1, _, h, _, _ => exact absurd (by simp) h
  | 2, _, _, hb, o1 => exact vx_ckcastZ (C := RX4) S.1 S.2.1 S.2.2.2.1 (S.2.2.2.2 _ hlk) (hE.2.1 _ (List.mem_of_getElem? (i := 3) rfl)) hM (by decide) (by decide) hb o1 o2 hdg k
  | 3, _, _, hb, o1 => exact vx_ckcastZ (C := RX5) S.1 S.2.1 S.2.2.2.1 (S.2.2.2.2 _ hlk) (hE.2.1 _ (List.mem_of_getElem? (i := 4) rfl)) hM (by decide) (by decide) hb o1 o2 hdg k
  | 4, _, h, _, _ => exact absurd (by simp) h
  | 5, _, _, hb, o1 => exact vx_ckcastZ (C := RX7) S.1 S.2.1 S.2.2.2.1 (S.2.2.2.2 _ hlk) (hE.2.1 _ (List.mem_of_getElem? (i := 5) rfl)) hM (by decide) (by decide) hb o1 o2 hdg k
  | n + 6, h, _, _, _ => exact absurd h (by omega)
theorem xck_4 (S : CallFix p m c cc nL s args lw_all own) (hE : gEX s) (hK : va_K D clA (tysG ct) s) (hH : GH D A (xAs a) H0 (WX ct a ρ st) H locs) (hj : j < 11) {g : Nat × Int32} (hg0 : xg st j = some g) (hk0 : g.1 = 2 ∨ g.1 = 5) (hlk : Cond.classLink own idx "CapCouncil$Arc" ∈ lw_all) (hdg : decode cc pc = .ok (.checkcast idx, 3)) (k : W p l e R s m args below meth c H locs cells slots Q (F0 m (pc + 3) ls (va_rf (ag a j) :: rest))) : W p l e R s m args below meth c H locs cells slots Q (F0 m pc ls (va_rf (ag a j) :: rest)) := by
  obtain ⟨kd, num⟩ := g
  have hk0 : kd = 2 ∨ kd = 5 := hk0
  obtain ⟨q, k0, hq, hk6, hat⟩ := xg_has hH hj hg0
  have hb := rg_recv hK hH.1 hk6 hat
  have hcl := rg_at hK hk6
  rw [hq] at k ⊢
  rcases hk0 with rfl | rfl
  · exact va_castS S.1 S.2.1 S.2.2.2.1 (S.2.2.2.2 _ hlk) hcl hb hdg k
  · exact va_castY S.1 S.2.1 S.2.2.2.1 (S.2.2.2.2 _ hlk) (hE.1 _ (List.mem_of_getElem? (i := 19) rfl)) hb hdg k
theorem xck_4Z (S : CallFix p m c cc nL s args lw_all own) (hE : gEX s) (hM : modulesRight_1 s = true) (hK : va_K D clA (tysG ct) s) (hH : GH D A (xAs a) H0 (WX ct a ρ st) H locs) (hj : j < 11) {g : Nat × Int32} (hg0 : xg st j = some g) (hk0 : ¬ (g.1 = 2 ∨ g.1 = 5)) (hlk : Cond.classLink own idx "CapCouncil$Arc" ∈ lw_all) (hdg : decode cc pc = .ok (.checkcast idx, 3)) (k : ∀ tx : String, tx.toList.length ≤ 240 → (tx == notModelled) = false → vx_Note p l e R s m args below meth c H locs cells slots Q (F0 m pc ls (va_rf (ag a j) :: rest)) "java/lang/ClassCastException" tx) : W p l e R s m args below meth c H locs cells slots Q (F0 m pc ls (va_rf (ag a j) :: rest)) := by
  obtain ⟨kd, num⟩ := g
  have hk0 : ¬ (kd = 2 ∨ kd = 5) := hk0
  obtain ⟨q, k0, hq, hk6, hat⟩ := xg_has hH hj hg0
  have hb := rg_recv hK hH.1 hk6 hat
  have o2 : ∀ (i : ClassId) (k : Class), s.vm.findClass "CapCouncil$Arc" = some i → s.vm.classes[i]? = some k → k.kind = .ordinary := fun i k h1 h2 => ca_ord (rg_at hK (kd := 2) (by decide)) h1 h2
  have o1 : ∀ (i : ClassId) (k : Class), s.vm.findClass (rgC kd).1 = some i → s.vm.classes[i]? = some k → k.kind = .ordinary := fun i k h1 h2 => ca_ord (rg_at hK hk6) h1 h2
  rw [hq] at k ⊢
  match kd, hk6, hk0, hb, o1 with
  | 0, _, _, hb, o1 => exact vx_ckcastZ (C := RX2) S.1 S.2.1 S.2.2.2.1 (S.2.2.2.2 _ hlk) (hE.2.1 _ (List.mem_of_getElem? (i := 6) rfl)) hM (by decide) (by decide) hb o1 o2 hdg k
  | 1, _, _, hb, o1 => exact vx_ckcastZ (C := RX3) S.1 S.2.1 S.2.2.2.1 (S.2.2.2.2 _ hlk) (hE.2.1 _ (List.mem_of_getElem? (i := 7) rfl)) hM (by decide) (by decide) hb o1 o2 hdg k
  | 2, _, h, _, _ => exact absurd (by simp) h
  | 3, _, _, hb, o1 => exact vx_ckcastZ (C := RX5) S.1 S.2.1 S.2.2.2.1 (S.2.2.2.2 _ hlk) (hE.2.1 _ (List.mem_of_getElem? (i := 8) rfl)) hM (by decide) (by decide) hb o1 o2 hdg k
  | 4, _, _, hb, o1 => exact vx_ckcastZ (C := RX6) S.1 S.2.1 S.2.2.2.1 (S.2.2.2.2 _ hlk) (hE.2.1 _ (List.mem_of_getElem? (i := 9) rfl)) hM (by decide) (by decide) hb o1 o2 hdg k
  | 5, _, h, _, _ => exact absurd (by simp) h
  | n + 6, h, _, _, _ => exact absurd h (by omega)
theorem xck_5 (S : CallFix p m c cc nL s args lw_all own) (hE : gEX s) (hK : va_K D clA (tysG ct) s) (hH : GH D A (xAs a) H0 (WX ct a ρ st) H locs) (hj : j < 11) {g : Nat × Int32} (hg0 : xg st j = some g) (hk0 : g.1 = 3) (hlk : Cond.classLink own idx "CapCouncil$Puff" ∈ lw_all) (hdg : decode cc pc = .ok (.checkcast idx, 3)) (k : W p l e R s m args below meth c H locs cells slots Q (F0 m (pc + 3) ls (va_rf (ag a j) :: rest))) : W p l e R s m args below meth c H locs cells slots Q (F0 m pc ls (va_rf (ag a j) :: rest)) := by
  obtain ⟨kd, num⟩ := g
  have hk0 : kd = 3 := hk0
  obtain ⟨q, k0, hq, hk6, hat⟩ := xg_has hH hj hg0
  have hb := rg_recv hK hH.1 hk6 hat
  have hcl := rg_at hK hk6
  rw [hq] at k ⊢
  rcases hk0 with rfl
  exact va_castS S.1 S.2.1 S.2.2.2.1 (S.2.2.2.2 _ hlk) hcl hb hdg k
theorem xck_5Z (S : CallFix p m c cc nL s args lw_all own) (hE : gEX s) (hM : modulesRight_1 s = true) (hK : va_K D clA (tysG ct) s) (hH : GH D A (xAs a) H0 (WX ct a ρ st) H locs) (hj : j < 11) {g : Nat × Int32} (hg0 : xg st j = some g) (hk0 : ¬ (g.1 = 3)) (hlk : Cond.classLink own idx "CapCouncil$Puff" ∈ lw_all) (hdg : decode cc pc = .ok (.checkcast idx, 3)) (k : ∀ tx : String, tx.toList.length ≤ 240 → (tx == notModelled) = false → vx_Note p l e R s m args below meth c H locs cells slots Q (F0 m pc ls (va_rf (ag a j) :: rest)) "java/lang/ClassCastException" tx) : W p l e R s m args below meth c H locs cells slots Q (F0 m pc ls (va_rf (ag a j) :: rest)) := by
  obtain ⟨kd, num⟩ := g
  have hk0 : ¬ (kd = 3) := hk0
  obtain ⟨q, k0, hq, hk6, hat⟩ := xg_has hH hj hg0
  have hb := rg_recv hK hH.1 hk6 hat
  have o2 : ∀ (i : ClassId) (k : Class), s.vm.findClass "CapCouncil$Puff" = some i → s.vm.classes[i]? = some k → k.kind = .ordinary := fun i k h1 h2 => ca_ord (rg_at hK (kd := 3) (by decide)) h1 h2
  have o1 : ∀ (i : ClassId) (k : Class), s.vm.findClass (rgC kd).1 = some i → s.vm.classes[i]? = some k → k.kind = .ordinary := fun i k h1 h2 => ca_ord (rg_at hK hk6) h1 h2
  rw [hq] at k ⊢
  match kd, hk6, hk0, hb, o1 with
  | 0, _, _, hb, o1 => exact vx_ckcastZ (C := RX2) S.1 S.2.1 S.2.2.2.1 (S.2.2.2.2 _ hlk) (hE.2.1 _ (List.mem_of_getElem? (i := 10) rfl)) hM (by decide) (by decide) hb o1 o2 hdg k
  | 1, _, _, hb, o1 => exact vx_ckcastZ (C := RX3) S.1 S.2.1 S.2.2.2.1 (S.2.2.2.2 _ hlk) (hE.2.1 _ (List.mem_of_getElem? (i := 11) rfl)) hM (by decide) (by decide) hb o1 o2 hdg k
  | 2, _, _, hb, o1 => exact vx_ckcastZ (C := RX4) S.1 S.2.1 S.2.2.2.1 (S.2.2.2.2 _ hlk) (hE.2.1 _ (List.mem_of_getElem? (i := 12) rfl)) hM (by decide) (by decide) hb o1 o2 hdg k
  | 3, _, h, _, _ => exact absurd (by simp) h
  | 4, _, _, hb, o1 => exact vx_ckcastZ (C := RX6) S.1 S.2.1 S.2.2.2.1 (S.2.2.2.2 _ hlk) (hE.2.1 _ (List.mem_of_getElem? (i := 13) rfl)) hM (by decide) (by decide) hb o1 o2 hdg k
  | 5, _, _, hb, o1 => exact vx_ckcastZ (C := RX7) S.1 S.2.1 S.2.2.2.1 (S.2.2.2.2 _ hlk) (hE.2.1 _ (List.mem_of_getElem? (i := 14) rfl)) hM (by decide) (by decide) hb o1 o2 hdg k
  | n + 6, h, _, _, _ => exact absurd h (by omega)
theorem xck_6 (S : CallFix p m c cc nL s args lw_all own) (hE : gEX s) (hK : va_K D clA (tysG ct) s) (hH : GH D A (xAs a) H0 (WX ct a ρ st) H locs) (hj : j < 11) {g : Nat × Int32} (hg0 : xg st j = some g) (hk0 : g.1 = 4) (hlk : Cond.classLink own idx "CapCouncil$Death" ∈ lw_all) (hdg : decode cc pc = .ok (.checkcast idx, 3)) (k : W p l e R s m args below meth c H locs cells slots Q (F0 m (pc + 3) ls (va_rf (ag a j) :: rest))) : W p l e R s m args below meth c H locs cells slots Q (F0 m pc ls (va_rf (ag a j) :: rest)) := by
  obtain ⟨kd, num⟩ := g
  have hk0 : kd = 4 := hk0
  obtain ⟨q, k0, hq, hk6, hat⟩ := xg_has hH hj hg0
  have hb := rg_recv hK hH.1 hk6 hat
  have hcl := rg_at hK hk6
  rw [hq] at k ⊢
  rcases hk0 with rfl
  exact va_castS S.1 S.2.1 S.2.2.2.1 (S.2.2.2.2 _ hlk) hcl hb hdg k
theorem xck_6Z (S : CallFix p m c cc nL s args lw_all own) (hE : gEX s) (hM : modulesRight_1 s = true) (hK : va_K D clA (tysG ct) s) (hH : GH D A (xAs a) H0 (WX ct a ρ st) H locs) (hj : j < 11) {g : Nat × Int32} (hg0 : xg st j = some g) (hk0 : ¬ (g.1 = 4)) (hlk : Cond.classLink own idx "CapCouncil$Death" ∈ lw_all) (hdg : decode cc pc = .ok (.checkcast idx, 3)) (k : ∀ tx : String, tx.toList.length ≤ 240 → (tx == notModelled) = false → vx_Note p l e R s m args below meth c H locs cells slots Q (F0 m pc ls (va_rf (ag a j) :: rest)) "java/lang/ClassCastException" tx) : W p l e R s m args below meth c H locs cells slots Q (F0 m pc ls (va_rf (ag a j) :: rest)) := by
  obtain ⟨kd, num⟩ := g
  have hk0 : ¬ (kd = 4) := hk0
  obtain ⟨q, k0, hq, hk6, hat⟩ := xg_has hH hj hg0
  have hb := rg_recv hK hH.1 hk6 hat
  have o2 : ∀ (i : ClassId) (k : Class), s.vm.findClass "CapCouncil$Death" = some i → s.vm.classes[i]? = some k → k.kind = .ordinary := fun i k h1 h2 => ca_ord (rg_at hK (kd := 4) (by decide)) h1 h2
  have o1 : ∀ (i : ClassId) (k : Class), s.vm.findClass (rgC kd).1 = some i → s.vm.classes[i]? = some k → k.kind = .ordinary := fun i k h1 h2 => ca_ord (rg_at hK hk6) h1 h2
  rw [hq] at k ⊢
  match kd, hk6, hk0, hb, o1 with
  | 0, _, _, hb, o1 => exact vx_ckcastZ (C := RX2) S.1 S.2.1 S.2.2.2.1 (S.2.2.2.2 _ hlk) (hE.2.1 _ (List.mem_of_getElem? (i := 15) rfl)) hM (by decide) (by decide) hb o1 o2 hdg k
  | 1, _, _, hb, o1 => exact vx_ckcastZ (C := RX3) S.1 S.2.1 S.2.2.2.1 (S.2.2.2.2 _ hlk) (hE.2.1 _ (List.mem_of_getElem? (i := 16) rfl)) hM (by decide) (by decide) hb o1 o2 hdg k
  | 2, _, _, hb, o1 => exact vx_ckcastZ (C := RX4) S.1 S.2.1 S.2.2.2.1 (S.2.2.2.2 _ hlk) (hE.2.1 _ (List.mem_of_getElem? (i := 17) rfl)) hM (by decide) (by decide) hb o1 o2 hdg k
  | 3, _, _, hb, o1 => exact vx_ckcastZ (C := RX5) S.1 S.2.1 S.2.2.2.1 (S.2.2.2.2 _ hlk) (hE.2.1 _ (List.mem_of_getElem? (i := 18) rfl)) hM (by decide) (by decide) hb o1 o2 hdg k
  | 4, _, h, _, _ => exact absurd (by simp) h
  | 5, _, _, hb, o1 => exact vx_ckcastZ (C := RX7) S.1 S.2.1 S.2.2.2.1 (S.2.2.2.2 _ hlk) (hE.2.1 _ (List.mem_of_getElem? (i := 19) rfl)) hM (by decide) (by decide) hb o1 o2 hdg k
  | n + 6, h, _, _, _ => exact absurd h (by omega)
theorem xck_7 (S : CallFix p m c cc nL s args lw_all own) (hE : gEX s) (hK : va_K D clA (tysG ct) s) (hH : GH D A (xAs a) H0 (WX ct a ρ st) H locs) (hj : j < 11) {g : Nat × Int32} (hg0 : xg st j = some g) (hk0 : g.1 = 5) (hlk : Cond.classLink own idx "CapCouncil$Whole" ∈ lw_all) (hdg : decode cc pc = .ok (.checkcast idx, 3)) (k : W p l e R s m args below meth c H locs cells slots Q (F0 m (pc + 3) ls (va_rf (ag a j) :: rest))) : W p l e R s m args below meth c H locs cells slots Q (F0 m pc ls (va_rf (ag a j) :: rest)) := by
  obtain ⟨kd, num⟩ := g
  have hk0 : kd = 5 := hk0
  obtain ⟨q, k0, hq, hk6, hat⟩ := xg_has hH hj hg0
  have hb := rg_recv hK hH.1 hk6 hat
  have hcl := rg_at hK hk6
  rw [hq] at k ⊢
  rcases hk0 with rfl
  exact va_castS S.1 S.2.1 S.2.2.2.1 (S.2.2.2.2 _ hlk) hcl hb hdg k
theorem xck_7Z (S : CallFix p m c cc nL s args lw_all own) (hE : gEX s) (hM : modulesRight_1 s = true) (hK : va_K D clA (tysG ct) s) (hH : GH D A (xAs a) H0 (WX ct a ρ st) H locs) (hj : j < 11) {g : Nat × Int32} (hg0 : xg st j = some g) (hk0 : ¬ (g.1 = 5)) (hlk : Cond.classLink own idx "CapCouncil$Whole" ∈ lw_all) (hdg : decode cc pc = .ok (.checkcast idx, 3)) (k : ∀ tx : String, tx.toList.length ≤ 240 → (tx == notModelled) = false → vx_Note p l e R s m args below meth c H locs cells slots Q (F0 m pc ls (va_rf (ag a j) :: rest)) "java/lang/ClassCastException" tx) : W p l e R s m args below meth c H locs cells slots Q (F0 m pc ls (va_rf (ag a j) :: rest)) := by
  obtain ⟨kd, num⟩ := g
  have hk0 : ¬ (kd = 5) := hk0
  obtain ⟨q, k0, hq, hk6, hat⟩ := xg_has hH hj hg0
  have hb := rg_recv hK hH.1 hk6 hat
  have o2 : ∀ (i : ClassId) (k : Class), s.vm.findClass "CapCouncil$Whole" = some i → s.vm.classes[i]? = some k → k.kind = .ordinary := fun i k h1 h2 => ca_ord (rg_at hK (kd := 5) (by decide)) h1 h2
  have o1 : ∀ (i : ClassId) (k : Class), s.vm.findClass (rgC kd).1 = some i → s.vm.classes[i]? = some k → k.kind = .ordinary := fun i k h1 h2 => ca_ord (rg_at hK hk6) h1 h2
  rw [hq] at k ⊢
  match kd, hk6, hk0, hb, o1 with
  | 0, _, _, hb, o1 => exact vx_ckcastZ (C := RX2) S.1 S.2.1 S.2.2.2.1 (S.2.2.2.2 _ hlk) (hE.2.1 _ (List.mem_of_getElem? (i := 20) rfl)) hM (by decide) (by decide) hb o1 o2 hdg k
  | 1, _, _, hb, o1 => exact vx_ckcastZ (C := RX3) S.1 S.2.1 S.2.2.2.1 (S.2.2.2.2 _ hlk) (hE.2.1 _ (List.mem_of_getElem? (i := 21) rfl)) hM (by decide) (by decide) hb o1 o2 hdg k
  | 2, _, _, hb, o1 => exact vx_ckcastZ (C := RX4) S.1 S.2.1 S.2.2.2.1 (S.2.2.2.2 _ hlk) (hE.2.1 _ (List.mem_of_getElem? (i := 22) rfl)) hM (by decide) (by decide) hb o1 o2 hdg k
  | 3, _, _, hb, o1 => exact vx_ckcastZ (C := RX5) S.1 S.2.1 S.2.2.2.1 (S.2.2.2.2 _ hlk) (hE.2.1 _ (List.mem_of_getElem? (i := 23) rfl)) hM (by decide) (by decide) hb o1 o2 hdg k
  | 4, _, _, hb, o1 => exact vx_ckcastZ (C := RX6) S.1 S.2.1 S.2.2.2.1 (S.2.2.2.2 _ hlk) (hE.2.1 _ (List.mem_of_getElem? (i := 24) rfl)) hM (by decide) (by decide) hb o1 o2 hdg k
  | 5, _, h, _, _ => exact absurd (by simp) h
  | n + 6, h, _, _, _ => exact absurd h (by omega)
end MKD
def GPreM (D : va_G) (ct : Nat → ClassId) (as : List Nat) (ws : va_W × Prop) (sz : Nat) (av : List Value) : Array Value → State → Prop := fun v U => GPreX D ct as ws sz av v U ∧ modulesRight_1 U = true
theorem mr_moved {u U : State} (hvm : u.vm.Alike U.vm) (h : modulesRight_1 u = true) : modulesRight_1 U = true := by
  have hmo : U.vm.modules = u.vm.modules := by rw [hvm.1]
  unfold modulesRight_1 at h ⊢
  rw [hmo]
  exact h
section MKE
variable {p : Program} {l : Launch} {e : Env} {R : Room} {s : State} {m : MethodId} {args : Array Value} {below : List Frame} {meth : Method} {c : Code} {H : Heap} {locs : List Loc} {cells slots : Nat} {Q : State → Prop}
variable {cc bytes : ByteArray} {pc nL maxL idx mc ms sz b : Nat} {ls : Array Slot} {rest av st0 : List Value} {lv : List (Nat × Value)} {D : va_G} {ct : Nat → ClassId} {A : Nat → Prop} {as as0 as1 : List Nat} {H0 : Heap} {ws ws1 : va_W × Prop} {own C : String} {y : MethodName} {ret : Option FieldType} {rm : Room} {hh : List (Nat × Nat × Nat × Nat)}
theorem gM_blind : FrameBlind (GPreM D ct as ws sz av) := fun a U g mk q => ⟨gX_blind a U g mk q.1, q.2⟩
theorem gm_met {Qc : Array Value → State → Outcome → State → Prop} {free : Addr → Prop} (hy : plainName y.cls = true) (hn : (lg_sl av).length ≤ maxL)
    (body : ∀ (p : Program) (e : Env) (s : State) (m : MethodId) (args : Array Value) (below : List Frame) (meth : Method) (c : Code) (ls : Array Slot), CallFix p m c cc maxL s args lw_all y.cls → meth.sig.returnType = ret → meth.locks = false → va_K D clA (tysG ct) s → GH D (gA as s.heap.size) as s.heap ws s.heap [] → gEX s → modulesRight_1 s = true → EXH as s → s.heap.size = sz → c.exceptionTable.toList = tableOf hh → lv_has ls maxL (lv_args 0 av) →
      W p l e rm s m args below meth c s.heap [] 0 0 (vx_MQ below Qc XNo args s mc ms free) (F0 m 0 ls [])) : vx_Met l y (wsW_ y cc maxL ret hh) rm (GPreM D ct as ws sz av) Qc XNo mc ms free := by
  refine vx_ofWH (cc := cc) (maxL := maxL) (ret := ret) (hh := hh) hy rfl ?_
  intro p e s m args below meth c s₁ B hml hv
  obtain ⟨⟨⟨rfl, hsz, hP, hK, hD, hE, hX⟩, hZ⟩, hM⟩ := hv
  have hts0 := atoms_spec (ws := wsW_ y cc maxL ret hh) B.pre
  have hts : ∀ w ∈ lw_all, w.before _ s = true := fun w h => hts0 w (List.mem_cons_of_mem _ h)
  have hown := findClass_of_methodNamed B.named
  have hl := lv_entry av (n := maxL) hn
  have htb := vx_table (x := y) B (hts0 _ List.mem_cons_self)
  rw [lg_entry_eq]
  exact body p e s m _ below meth c _ ⟨B.exec, B.bytes, hml, hown, hts⟩ B.returns B.notSynchronized hK ⟨hP, hD, va_S.rf, fun q h => Or.inl h, fun q h => Or.inr h, hX⟩ hE hM hZ hsz htb hl
theorem gm_calli {v : Int32} (S : CallFix p m c cc nL s args lw_all own) (hl : lv_has ls nL lv) (hE : gEX s) (hMR : modulesRight_1 s = true) (hK : va_K D clA (tysG ct) s) (hH : GH D A as H0 ws H locs) (hZ : vx_Zq Bundle.tN "UNASSIGNED_STACK" Bundle.steD (gA as H.size) s H ∧ vx_Zq Bundle.tN "SUPPRESSED_SENTINEL" Bundle.listD (gA as H.size) s H) (hM : vx_Met l y (wsW_ y bytes maxL ret hh) rm (GPreM D ct as ws H.size (.ref b :: av)) (GQi D as as1 ws1 H.size v) XNo mc ms (gA as H.size))
    (hG : GoodIn lw_all (wsV own idx C y (wsW_ y bytes maxL ret hh))) (hrc : rm.cells = mc) (hrs : rm.slots = ms) (hd : y.cls = C ∧ y.cls ≠ "java/lang/invoke/MethodHandle" ∧ y.cls ≠ "java/lang/invoke/VarHandle" ∧ (parseMethodDescriptor y.desc).map (fun d => d.parameters.length) = some av.length) (hR : rm.frames + 1 ≤ R.frames ∧ 8 + (maxL + 11) + rm.locals ≤ R.locals)
    (hb : ∃ cellB : Cell, H[b]? = some cellB ∧ cellB.vm.isStatics = false ∧ s.vm.findClass C = some cellB.cls) (hn : ∀ q, q ∈ as1 → gA as H.size q)
    (hst : st0 = av.reverse ++ .ref b :: rest) (hsum : (rest.map fun v => v.category).sum ≤ 8) (hdg : decode cc pc = .ok (.invokevirtual idx, 3)) (hf : cells + mc ≤ R.cells ∧ slots + ms ≤ R.slots)
    (k : ∀ (H1 : Heap) (locs1 : List Loc), GH D A as1 H0 ws1 H1 locs1 → W p l e R s m args below meth c H1 locs1 (cells + mc) (slots + ms) Q (F0 m (pc + 3) ls (.int v :: rest))) : W p l e R s m args below meth c H locs cells slots Q (F0 m pc ls st0) := by
  have hp0 := gX_pre (av := .ref b :: av) hE hK hH hZ
  have hp : PreS s H (GPreM D ct as ws H.size (.ref b :: av)) (.ref b :: av) := ⟨gM_blind, fun U hU hW => ⟨hp0.2 U hU hW, mr_moved hW.alike hMR⟩⟩
  have hsub := g_sub hH.2.2.1 hH.2.2.2.1 hH.2.2.2.2.1
  refine vx_calli (A0 := A) (AX := fun _ => False) (px := fun _ : Unit => False) (BX := fun _ _ _ => True) (vx_runVX (As := av) (rest := rest) S hM (vx_cwVW av.length S.2.2.2.2 hG rfl hrc hrs hd hR) ⟨hp.1, hb, hp.2⟩ rfl rfl hl.1 hst (lv_room hsum) hdg hf) hH.2.2.1 (fun q _ h => hsub q h) hsub (fun _ _ h => h.elim) (fun E ce q9 u t H1 locs1 _ _ hF => hF.elim) (fun r u t H1 locs1 ht hvm hr hB hz hk hS => ?_)
  subst hr
  obtain ⟨hP1, hD1, hX1⟩ := hB
  rw [ht] at hP1
  exact k H1 locs1 (g_new hH hP1 hD1 hX1 hS hn)
end MKE

/-! CapCouncil.mark (II)I -/
def X_mark (st : XS) (a1 : Int32) (a2 : Int32) : Option (XS × Int32) :=
  (X_isRing st a1).bind fun v1 =>
  if v1 = 0 then
    (some (st, (-1 : Int32)))
  else
    ((X_isIn a2 (1 : Int32) (5 : Int32)).bind fun v3 =>
    if v3 = 0 then
      (some (st, (-1 : Int32)))
    else
      ((bs_ix 5 a1).bind fun v5 =>
      if a2 = (1 : Int32) then
        ((xg st (6 + v5)).bind fun g7 =>
        if g7.1 = 1 ∨ g7.1 = 4 then
          ((X_bald st (6 + v5)).bind fun v10 =>
          some (st, v10))
        else
          ((X_found st (3 : Int32)).bind fun q9 =>
          some (q9.1, q9.2)))
      else
      if a2 = (2 : Int32) then
        ((xg st (6 + v5)).bind fun g12 =>
        if g12.1 = 2 ∨ g12.1 = 5 then
          ((X_gap st (6 + v5)).bind fun v15 =>
          some (st, v15))
        else
          ((X_found st (3 : Int32)).bind fun q14 =>
          some (q14.1, q14.2)))
      else
      if a2 = (3 : Int32) then
        ((xg st (6 + v5)).bind fun g17 =>
        if g17.1 = 3 then
          ((X_adjourned st (6 + v5)).bind fun v20 =>
          some (st, v20))
        else
          ((X_found st (3 : Int32)).bind fun q19 =>
          some (q19.1, q19.2)))
      else
      if a2 = (4 : Int32) then
        ((xg st (6 + v5)).bind fun g22 =>
        if g22.1 = 4 then
          ((X_edge st (6 + v5)).bind fun v25 =>
          some (st, v25))
        else
          ((X_found st (3 : Int32)).bind fun q24 =>
          some (q24.1, q24.2)))
      else
        ((xg st (6 + v5)).bind fun g26 =>
        if g26.1 = 5 then
          ((X_heart st (6 + v5)).bind fun v29 =>
          some (st, v29))
        else
          ((X_found st (3 : Int32)).bind fun q28 =>
          some (q28.1, q28.2)))))
def rm_X_mark : Room := { frames := 10, cells := 3, slots := 1010, locals := 10320 }
set_option maxHeartbeats 4000000 in
set_option maxRecDepth 100000 in
theorem met_X_mark (l : Launch) (hfl : l.stackTraces = false) (D : va_G) (ct : Nat → ClassId) (a : XA) (ρ : Option Nat) (sz : Nat) (st : XS) (a1 : Int32) (a2 : Int32) (z : (XS × Int32)) (hd : X_mark st a1 a2 = some z) : vx_Met l yX0_mark (wsW_ yX0_mark cX0_mark 5 (some .int) [(26, 64, 101, 256), (65, 73, 101, 256), (74, 82, 101, 256), (83, 91, 101, 256), (92, 100, 101, 256)]) rm_X_mark (GPreM D ct (xAs a) (WX ct a ρ st) sz [.ref (ah a 0), .int a1, .int a2]) (GQi D (xAs a) (xAs a) (WX ct a ρ z.1) sz z.2) XNo 3 1010 (gA (xAs a) sz) := by
  refine gm_met (cc := cX0_mark) (maxL := 5) (ret := (some .int)) (by decide) (Nat.le_of_ble_eq_true rfl) ?_
  intro p e U m args below meth c ls S hr hlk hK hH hE hM hZ hsz htb hl
  subst hsz
  have S : CallFix p m c cX0_mark 5 U args lw_all RX0 := S
  have hx := S.1
  have hb := S.2.1
  have hl : lv_has ls 5 [(0, .ref (ah a 0)), (1, .int a1), (2, .int a2)] := hl
  unfold X_mark at hd
  refine lv_aload_n (pc := 0) hx hb dX0_mark_0 rfl (lv_at hl 0 rfl) ?_
  refine lv_iload_n (pc := 1) hx hb dX0_mark_1 rfl (lv_at hl 1 rfl) ?_
  obtain ⟨v1, hv1, hd⟩ := bs_bd hd
  refine call_X_isRing (pc := 2) S hl hE hK hH q481 hv1 ⟨Nat.le_of_ble_eq_true rfl, Nat.le_of_ble_eq_true rfl⟩ (Nat.le_of_ble_eq_true rfl) dX0_mark_2 ⟨Nat.le_of_ble_eq_true rfl, Nat.le_of_ble_eq_true rfl⟩ ?_
  refine lv_if_eq (pc := 5) (tgt := 17) hx hb dX0_mark_5 (by decide) (fun c2 => ?_) (fun c2 => ?_)
  · have hd := if_t c2 hd
    refine lv_iconst (v := (-1 : Int32)) (pc := 17) hx hb dX0_mark_17 (by decide) ?_
    refine vx_ret ?_
    refine W.widen (k := 3) (n := 1010) (Nat.le_of_ble_eq_true rfl) (Nat.le_of_ble_eq_true rfl) ?_
    exact g_iret (WX ct a ρ) hd S hr hlk hH dX0_mark_18
  · have hd := if_n c2 hd
    refine lv_iload_n (pc := 8) hx hb dX0_mark_8 rfl (lv_at hl 2 rfl) ?_
    refine lv_iconst (v := (1 : Int32)) (pc := 9) hx hb dX0_mark_9 (by decide) ?_
    refine lv_iconst (v := (5 : Int32)) (pc := 10) hx hb dX0_mark_10 (by decide) ?_
    obtain ⟨v3, hv3, hd⟩ := bs_bd hd
    refine call_X_isIn (pc := 11) S hl q285 hv3 ⟨Nat.le_of_ble_eq_true rfl, Nat.le_of_ble_eq_true rfl⟩ (Nat.le_of_ble_eq_true rfl) dX0_mark_11 ⟨Nat.le_of_ble_eq_true rfl, Nat.le_of_ble_eq_true rfl⟩ ?_
    refine lv_if_ne (pc := 14) (tgt := 19) hx hb dX0_mark_14 (by decide) (fun c4 => ?_) (fun c4 => ?_)
    · have hd := if_n c4 hd
      refine lv_aload_n (pc := 19) hx hb dX0_mark_19 rfl (lv_at hl 0 rfl) ?_
      refine xg_rings (pc := 20) S hK hH dX0_mark_20 ?_
      refine lv_iload_n (pc := 23) hx hb dX0_mark_23 rfl (lv_at hl 1 rfl) ?_
      obtain ⟨v5, hv5, hd⟩ := bs_bd hd
      refine xq_rings (pc := 24) S hK hH hv5 dX0_mark_24 ?_
      refine lv_astore_nO (pc := 25) (lv' := [(3, va_rf (ag a (6 + v5))), (0, .ref (ah a 0)), (1, .int a1), (2, .int a2)]) hx hb dX0_mark_25 rfl hl (by decide) rfl (fun ls hl => ?_)
      refine lv_iload_n (pc := 26) hx hb dX0_mark_26 rfl (lv_at hl 3 rfl) ?_
      by_cases c6 : a2 = (1 : Int32)
      · have hd := if_t c6 hd
        refine lv_tabE (pc := 27) (off := 29) (tgt := 56) hx hb dX0_mark_27 c6 (by decide) (by decide) rfl (by decide) ?_
        refine lv_aload_nO (pc := 56) hx hb dX0_mark_56 rfl (lv_at hl 0 rfl) ?_
        obtain ⟨g7, hg7, hd⟩ := bs_bd hd
        by_cases c8 : g7.1 = 1 ∨ g7.1 = 4
        · have hd := if_t c8 hd
          refine xck_3 (pc := 57) S hE hK hH (Nat.add_lt_add_left (bs_ix_lt hv5) 6) hg7 c8 q428 dX0_mark_57 ?_
          refine lv_aload_n (pc := 60) hx hb dX0_mark_60 rfl (lv_at hl 1 rfl) ?_
          obtain ⟨v10, hv10, hd⟩ := bs_bd hd
          refine call_bald (pc := 61) S hl hE hK hH (Nat.add_lt_add_left (bs_ix_lt hv5) 6) hg7 c8 q599 hv10 ⟨Nat.le_of_ble_eq_true rfl, Nat.le_of_ble_eq_true rfl⟩ (Nat.le_of_ble_eq_true rfl) dX0_mark_61 ⟨Nat.le_of_ble_eq_true rfl, Nat.le_of_ble_eq_true rfl⟩ ?_
          refine vx_ret ?_
          refine W.widen (k := 3) (n := 1010) (Nat.le_of_ble_eq_true rfl) (Nat.le_of_ble_eq_true rfl) ?_
          exact g_iret (WX ct a ρ) hd S hr hlk hH dX0_mark_64
        · have hd := if_n c8 hd
          refine xck_3Z (pc := 57) S hE hM hK hH (Nat.add_lt_add_left (bs_ix_lt hv5) 6) hg7 c8 q428 dX0_mark_57 (fun tx ht1 ht2 => ?_)
          refine cx_msg (N := "java/lang/ClassCastException") (hat_CCE S.2.2.2.2 hE) hgd_CCE (by decide) (by decide) (by decide) (by decide) (by decide) ht2 (ca_bytes ht1) (by decide) (hE.1 _ (List.mem_of_getElem? (i := 7) rfl)) S hfl hlk hl hZ hH ⟨Nat.le_of_ble_eq_true rfl, Nat.le_of_ble_eq_true rfl⟩ (by simp [va_rf_cat, vc_int, vc_ref, vc_long]) ⟨Nat.le_of_ble_eq_true rfl, Nat.le_of_ble_eq_true rfl⟩ [] ⟨26, 64, 101, 256⟩ [⟨65, 73, 101, 256⟩, ⟨74, 82, 101, 256⟩, ⟨83, 91, 101, 256⟩, ⟨92, 100, 101, 256⟩] (htb.trans rfl) (fun z h => by cases h) (by decide) (by decide) q585 (fun H q9 hH => ?_)
          refine lv_astore (pc := 101) (i := 4) (lv' := [(4, .ref q9), (3, va_rf (ag a (6 + v5))), (0, .ref (ah a 0)), (1, .int a1), (2, .int a2)]) hx hb dX0_mark_101 hl (by decide) (by simp [va_rf_cat, vc_int, vc_ref, vc_long]) (fun ls hl => ?_)
          refine lv_aload_n (pc := 103) hx hb dX0_mark_103 rfl (lv_at hl 2 rfl) ?_
          refine lv_iconst (v := (3 : Int32)) (pc := 104) hx hb dX0_mark_104 (by decide) ?_
          obtain ⟨q9, hq9, hd⟩ := bs_bd hd
          refine call_X_found (pc := 105) S hl hE hK hH q288 hq9 ⟨Nat.le_of_ble_eq_true rfl, Nat.le_of_ble_eq_true rfl⟩ (Nat.le_of_ble_eq_true rfl) dX0_mark_105 ⟨Nat.le_of_ble_eq_true rfl, Nat.le_of_ble_eq_true rfl⟩ (fun H locs hH => ?_)
          refine vx_ret ?_
          refine W.widen (k := 3) (n := 1010) (Nat.le_of_ble_eq_true rfl) (Nat.le_of_ble_eq_true rfl) ?_
          exact g_iret (WX ct a ρ) hd S hr hlk hH dX0_mark_108
      have hd := if_n c6 hd
      by_cases c11 : a2 = (2 : Int32)
      · have hd := if_t c11 hd
        refine lv_tabE (pc := 27) (off := 38) (tgt := 65) hx hb dX0_mark_27 c11 (by decide) (by decide) rfl (by decide) ?_
        refine lv_aload_nO (pc := 65) hx hb dX0_mark_65 rfl (lv_at hl 0 rfl) ?_
        obtain ⟨g12, hg12, hd⟩ := bs_bd hd
        by_cases c13 : g12.1 = 2 ∨ g12.1 = 5
        · have hd := if_t c13 hd
          refine xck_4 (pc := 66) S hE hK hH (Nat.add_lt_add_left (bs_ix_lt hv5) 6) hg12 c13 q441 dX0_mark_66 ?_
          refine lv_aload_n (pc := 69) hx hb dX0_mark_69 rfl (lv_at hl 1 rfl) ?_
          obtain ⟨v15, hv15, hd⟩ := bs_bd hd
          refine call_gap (pc := 70) S hl hE hK hH (Nat.add_lt_add_left (bs_ix_lt hv5) 6) hg12 c13 q617 hv15 ⟨Nat.le_of_ble_eq_true rfl, Nat.le_of_ble_eq_true rfl⟩ (Nat.le_of_ble_eq_true rfl) dX0_mark_70 ⟨Nat.le_of_ble_eq_true rfl, Nat.le_of_ble_eq_true rfl⟩ ?_
          refine vx_ret ?_
          refine W.widen (k := 3) (n := 1010) (Nat.le_of_ble_eq_true rfl) (Nat.le_of_ble_eq_true rfl) ?_
          exact g_iret (WX ct a ρ) hd S hr hlk hH dX0_mark_73
        · have hd := if_n c13 hd
          refine xck_4Z (pc := 66) S hE hM hK hH (Nat.add_lt_add_left (bs_ix_lt hv5) 6) hg12 c13 q441 dX0_mark_66 (fun tx ht1 ht2 => ?_)
          refine cx_msg (N := "java/lang/ClassCastException") (hat_CCE S.2.2.2.2 hE) hgd_CCE (by decide) (by decide) (by decide) (by decide) (by decide) ht2 (ca_bytes ht1) (by decide) (hE.1 _ (List.mem_of_getElem? (i := 7) rfl)) S hfl hlk hl hZ hH ⟨Nat.le_of_ble_eq_true rfl, Nat.le_of_ble_eq_true rfl⟩ (by simp [va_rf_cat, vc_int, vc_ref, vc_long]) ⟨Nat.le_of_ble_eq_true rfl, Nat.le_of_ble_eq_true rfl⟩ [⟨26, 64, 101, 256⟩] ⟨65, 73, 101, 256⟩ [⟨74, 82, 101, 256⟩, ⟨83, 91, 101, 256⟩, ⟨92, 100, 101, 256⟩] (htb.trans rfl) (List.forall_mem_cons.mpr ⟨Or.inl (by decide), fun z h => by cases h⟩) (by decide) (by decide) q585 (fun H q9 hH => ?_)
          refine lv_astore (pc := 101) (i := 4) (lv' := [(4, .ref q9), (3, va_rf (ag a (6 + v5))), (0, .ref (ah a 0)), (1, .int a1), (2, .int a2)]) hx hb dX0_mark_101 hl (by decide) (by simp [va_rf_cat, vc_int, vc_ref, vc_long]) (fun ls hl => ?_)
          refine lv_aload_n (pc := 103) hx hb dX0_mark_103 rfl (lv_at hl 2 rfl) ?_
          refine lv_iconst (v := (3 : Int32)) (pc := 104) hx hb dX0_mark_104 (by decide) ?_
          obtain ⟨q14, hq14, hd⟩ := bs_bd hd
          refine call_X_found (pc := 105) S hl hE hK hH q288 hq14 ⟨Nat.le_of_ble_eq_true rfl, Nat.le_of_ble_eq_true rfl⟩ (Nat.le_of_ble_eq_true rfl) dX0_mark_105 ⟨Nat.le_of_ble_eq_true rfl, Nat.le_of_ble_eq_true rfl⟩ (fun H locs hH => ?_)
          refine vx_ret ?_
          refine W.widen (k := 3) (n := 1010) (Nat.le_of_ble_eq_true rfl) (Nat.le_of_ble_eq_true rfl) ?_
          exact g_iret (WX ct a ρ) hd S hr hlk hH dX0_mark_108
      have hd := if_n c11 hd
      by_cases c16 : a2 = (3 : Int32)
      · have hd := if_t c16 hd
        refine lv_tabE (pc := 27) (off := 47) (tgt := 74) hx hb dX0_mark_27 c16 (by decide) (by decide) rfl (by decide) ?_
        refine lv_aload_nO (pc := 74) hx hb dX0_mark_74 rfl (lv_at hl 0 rfl) ?_
        obtain ⟨g17, hg17, hd⟩ := bs_bd hd
        by_cases c18 : g17.1 = 3
        · have hd := if_t c18 hd
          refine xck_5 (pc := 75) S hE hK hH (Nat.add_lt_add_left (bs_ix_lt hv5) 6) hg17 c18 q449 dX0_mark_75 ?_
          refine lv_aload_n (pc := 78) hx hb dX0_mark_78 rfl (lv_at hl 1 rfl) ?_
          obtain ⟨v20, hv20, hd⟩ := bs_bd hd
          refine call_adjourned (pc := 79) S hl hE hK hH (Nat.add_lt_add_left (bs_ix_lt hv5) 6) hg17 c18 q628 hv20 ⟨Nat.le_of_ble_eq_true rfl, Nat.le_of_ble_eq_true rfl⟩ (Nat.le_of_ble_eq_true rfl) dX0_mark_79 ⟨Nat.le_of_ble_eq_true rfl, Nat.le_of_ble_eq_true rfl⟩ ?_
          refine vx_ret ?_
          refine W.widen (k := 3) (n := 1010) (Nat.le_of_ble_eq_true rfl) (Nat.le_of_ble_eq_true rfl) ?_
          exact g_iret (WX ct a ρ) hd S hr hlk hH dX0_mark_82
        · have hd := if_n c18 hd
          refine xck_5Z (pc := 75) S hE hM hK hH (Nat.add_lt_add_left (bs_ix_lt hv5) 6) hg17 c18 q449 dX0_mark_75 (fun tx ht1 ht2 => ?_)
          refine cx_msg (N := "java/lang/ClassCastException") (hat_CCE S.2.2.2.2 hE) hgd_CCE (by decide) (by decide) (by decide) (by decide) (by decide) ht2 (ca_bytes ht1) (by decide) (hE.1 _ (List.mem_of_getElem? (i := 7) rfl)) S hfl hlk hl hZ hH ⟨Nat.le_of_ble_eq_true rfl, Nat.le_of_ble_eq_true rfl⟩ (by simp [va_rf_cat, vc_int, vc_ref, vc_long]) ⟨Nat.le_of_ble_eq_true rfl, Nat.le_of_ble_eq_true rfl⟩ [⟨26, 64, 101, 256⟩, ⟨65, 73, 101, 256⟩] ⟨74, 82, 101, 256⟩ [⟨83, 91, 101, 256⟩, ⟨92, 100, 101, 256⟩] (htb.trans rfl) (List.forall_mem_cons.mpr ⟨Or.inl (by decide), List.forall_mem_cons.mpr ⟨Or.inl (by decide), fun z h => by cases h⟩⟩) (by decide) (by decide) q585 (fun H q9 hH => ?_)
          refine lv_astore (pc := 101) (i := 4) (lv' := [(4, .ref q9), (3, va_rf (ag a (6 + v5))), (0, .ref (ah a 0)), (1, .int a1), (2, .int a2)]) hx hb dX0_mark_101 hl (by decide) (by simp [va_rf_cat, vc_int, vc_ref, vc_long]) (fun ls hl => ?_)
          refine lv_aload_n (pc := 103) hx hb dX0_mark_103 rfl (lv_at hl 2 rfl) ?_
          refine lv_iconst (v := (3 : Int32)) (pc := 104) hx hb dX0_mark_104 (by decide) ?_
          obtain ⟨q19, hq19, hd⟩ := bs_bd hd
          refine call_X_found (pc := 105) S hl hE hK hH q288 hq19 ⟨Nat.le_of_ble_eq_true rfl, Nat.le_of_ble_eq_true rfl⟩ (Nat.le_of_ble_eq_true rfl) dX0_mark_105 ⟨Nat.le_of_ble_eq_true rfl, Nat.le_of_ble_eq_true rfl⟩ (fun H locs hH => ?_)
          refine vx_ret ?_
          refine W.widen (k := 3) (n := 1010) (Nat.le_of_ble_eq_true rfl) (Nat.le_of_ble_eq_true rfl) ?_
          exact g_iret (WX ct a ρ) hd S hr hlk hH dX0_mark_108
      have hd := if_n c16 hd
      by_cases c21 : a2 = (4 : Int32)
      · have hd := if_t c21 hd
        refine lv_tabE (pc := 27) (off := 56) (tgt := 83) hx hb dX0_mark_27 c21 (by decide) (by decide) rfl (by decide) ?_
        refine lv_aload_nO (pc := 83) hx hb dX0_mark_83 rfl (lv_at hl 0 rfl) ?_
        obtain ⟨g22, hg22, hd⟩ := bs_bd hd
        by_cases c23 : g22.1 = 4
        · have hd := if_t c23 hd
          refine xck_6 (pc := 84) S hE hK hH (Nat.add_lt_add_left (bs_ix_lt hv5) 6) hg22 c23 q457 dX0_mark_84 ?_
          refine lv_aload_n (pc := 87) hx hb dX0_mark_87 rfl (lv_at hl 1 rfl) ?_
          obtain ⟨v25, hv25, hd⟩ := bs_bd hd
          refine call_edge (pc := 88) S hl hE hK hH (Nat.add_lt_add_left (bs_ix_lt hv5) 6) hg22 c23 q632 hv25 ⟨Nat.le_of_ble_eq_true rfl, Nat.le_of_ble_eq_true rfl⟩ (Nat.le_of_ble_eq_true rfl) dX0_mark_88 ⟨Nat.le_of_ble_eq_true rfl, Nat.le_of_ble_eq_true rfl⟩ ?_
          refine vx_ret ?_
          refine W.widen (k := 3) (n := 1010) (Nat.le_of_ble_eq_true rfl) (Nat.le_of_ble_eq_true rfl) ?_
          exact g_iret (WX ct a ρ) hd S hr hlk hH dX0_mark_91
        · have hd := if_n c23 hd
          refine xck_6Z (pc := 84) S hE hM hK hH (Nat.add_lt_add_left (bs_ix_lt hv5) 6) hg22 c23 q457 dX0_mark_84 (fun tx ht1 ht2 => ?_)
          refine cx_msg (N := "java/lang/ClassCastException") (hat_CCE S.2.2.2.2 hE) hgd_CCE (by decide) (by decide) (by decide) (by decide) (by decide) ht2 (ca_bytes ht1) (by decide) (hE.1 _ (List.mem_of_getElem? (i := 7) rfl)) S hfl hlk hl hZ hH ⟨Nat.le_of_ble_eq_true rfl, Nat.le_of_ble_eq_true rfl⟩ (by simp [va_rf_cat, vc_int, vc_ref, vc_long]) ⟨Nat.le_of_ble_eq_true rfl, Nat.le_of_ble_eq_true rfl⟩ [⟨26, 64, 101, 256⟩, ⟨65, 73, 101, 256⟩, ⟨74, 82, 101, 256⟩] ⟨83, 91, 101, 256⟩ [⟨92, 100, 101, 256⟩] (htb.trans rfl) (List.forall_mem_cons.mpr ⟨Or.inl (by decide), List.forall_mem_cons.mpr ⟨Or.inl (by decide), List.forall_mem_cons.mpr ⟨Or.inl (by decide), fun z h => by cases h⟩⟩⟩) (by decide) (by decide) q585 (fun H q9 hH => ?_)
          refine lv_astore (pc := 101) (i := 4) (lv' := [(4, .ref q9), (3, va_rf (ag a (6 + v5))), (0, .ref (ah a 0)), (1, .int a1), (2, .int a2)]) hx hb dX0_mark_101 hl (by decide) (by simp [va_rf_cat, vc_int, vc_ref, vc_long]) (fun ls hl => ?_)
          refine lv_aload_n (pc := 103) hx hb dX0_mark_103 rfl (lv_at hl 2 rfl) ?_
          refine lv_iconst (v := (3 : Int32)) (pc := 104) hx hb dX0_mark_104 (by decide) ?_
          obtain ⟨q24, hq24, hd⟩ := bs_bd hd
          refine call_X_found (pc := 105) S hl hE hK hH q288 hq24 ⟨Nat.le_of_ble_eq_true rfl, Nat.le_of_ble_eq_true rfl⟩ (Nat.le_of_ble_eq_true rfl) dX0_mark_105 ⟨Nat.le_of_ble_eq_true rfl, Nat.le_of_ble_eq_true rfl⟩ (fun H locs hH => ?_)
          refine vx_ret ?_
          refine W.widen (k := 3) (n := 1010) (Nat.le_of_ble_eq_true rfl) (Nat.le_of_ble_eq_true rfl) ?_
          exact g_iret (WX ct a ρ) hd S hr hlk hH dX0_mark_108
      have hd := if_n c21 hd
      refine lv_tableOut (pc := 27) (tgt := 92) hx hb dX0_mark_27 (by have zc6 := lv_neT c6 (a := 1) (by decide); have zc11 := lv_neT c11 (a := 2) (by decide); have zc16 := lv_neT c16 (a := 3) (by decide); have zc21 := lv_neT c21 (a := 4) (by decide); omega) (by decide) ?_
      refine lv_aload_nO (pc := 92) hx hb dX0_mark_92 rfl (lv_at hl 0 rfl) ?_
      obtain ⟨g26, hg26, hd⟩ := bs_bd hd
      by_cases c27 : g26.1 = 5
      · have hd := if_t c27 hd
        refine xck_7 (pc := 93) S hE hK hH (Nat.add_lt_add_left (bs_ix_lt hv5) 6) hg26 c27 q465 dX0_mark_93 ?_
        refine lv_aload_n (pc := 96) hx hb dX0_mark_96 rfl (lv_at hl 1 rfl) ?_
        obtain ⟨v29, hv29, hd⟩ := bs_bd hd
        refine call_heart (pc := 97) S hl hE hK hH (Nat.add_lt_add_left (bs_ix_lt hv5) 6) hg26 c27 q639 hv29 ⟨Nat.le_of_ble_eq_true rfl, Nat.le_of_ble_eq_true rfl⟩ (Nat.le_of_ble_eq_true rfl) dX0_mark_97 ⟨Nat.le_of_ble_eq_true rfl, Nat.le_of_ble_eq_true rfl⟩ ?_
        refine vx_ret ?_
        refine W.widen (k := 3) (n := 1010) (Nat.le_of_ble_eq_true rfl) (Nat.le_of_ble_eq_true rfl) ?_
        exact g_iret (WX ct a ρ) hd S hr hlk hH dX0_mark_100
      · have hd := if_n c27 hd
        refine xck_7Z (pc := 93) S hE hM hK hH (Nat.add_lt_add_left (bs_ix_lt hv5) 6) hg26 c27 q465 dX0_mark_93 (fun tx ht1 ht2 => ?_)
        refine cx_msg (N := "java/lang/ClassCastException") (hat_CCE S.2.2.2.2 hE) hgd_CCE (by decide) (by decide) (by decide) (by decide) (by decide) ht2 (ca_bytes ht1) (by decide) (hE.1 _ (List.mem_of_getElem? (i := 7) rfl)) S hfl hlk hl hZ hH ⟨Nat.le_of_ble_eq_true rfl, Nat.le_of_ble_eq_true rfl⟩ (by simp [va_rf_cat, vc_int, vc_ref, vc_long]) ⟨Nat.le_of_ble_eq_true rfl, Nat.le_of_ble_eq_true rfl⟩ [⟨26, 64, 101, 256⟩, ⟨65, 73, 101, 256⟩, ⟨74, 82, 101, 256⟩, ⟨83, 91, 101, 256⟩] ⟨92, 100, 101, 256⟩ [] (htb.trans rfl) (List.forall_mem_cons.mpr ⟨Or.inl (by decide), List.forall_mem_cons.mpr ⟨Or.inl (by decide), List.forall_mem_cons.mpr ⟨Or.inl (by decide), List.forall_mem_cons.mpr ⟨Or.inl (by decide), fun z h => by cases h⟩⟩⟩⟩) (by decide) (by decide) q585 (fun H q9 hH => ?_)
        refine lv_astore (pc := 101) (i := 4) (lv' := [(4, .ref q9), (3, va_rf (ag a (6 + v5))), (0, .ref (ah a 0)), (1, .int a1), (2, .int a2)]) hx hb dX0_mark_101 hl (by decide) (by simp [va_rf_cat, vc_int, vc_ref, vc_long]) (fun ls hl => ?_)
        refine lv_aload_n (pc := 103) hx hb dX0_mark_103 rfl (lv_at hl 2 rfl) ?_
        refine lv_iconst (v := (3 : Int32)) (pc := 104) hx hb dX0_mark_104 (by decide) ?_
        obtain ⟨q28, hq28, hd⟩ := bs_bd hd
        refine call_X_found (pc := 105) S hl hE hK hH q288 hq28 ⟨Nat.le_of_ble_eq_true rfl, Nat.le_of_ble_eq_true rfl⟩ (Nat.le_of_ble_eq_true rfl) dX0_mark_105 ⟨Nat.le_of_ble_eq_true rfl, Nat.le_of_ble_eq_true rfl⟩ (fun H locs hH => ?_)
        refine vx_ret ?_
        refine W.widen (k := 3) (n := 1010) (Nat.le_of_ble_eq_true rfl) (Nat.le_of_ble_eq_true rfl) ?_
        exact g_iret (WX ct a ρ) hd S hr hlk hH dX0_mark_108
    · have hd := if_t c4 hd
      refine lv_iconst (v := (-1 : Int32)) (pc := 17) hx hb dX0_mark_17 (by decide) ?_
      refine vx_ret ?_
      refine W.widen (k := 3) (n := 1010) (Nat.le_of_ble_eq_true rfl) (Nat.le_of_ble_eq_true rfl) ?_
      exact g_iret (WX ct a ρ) hd S hr hlk hH dX0_mark_18
section CR_X_mark
variable {p : Program} {l : Launch} {e : Env} {R : Room} {s : State} {m : MethodId} {args : Array Value} {below : List Frame} {meth : Method} {c : Code} {H : Heap} {locs : List Loc} {cells slots : Nat} {Q : State → Prop}
variable {cc : ByteArray} {pc nL idx : Nat} {ls : Array Slot} {rest : List Value} {lv : List (Nat × Value)} {A : Nat → Prop} {H0 : Heap} {own : String}
theorem call_X_mark {D : va_G} {ct : Nat → ClassId} {a : XA} {ρ : Option Nat} {st : XS} {a1 : Int32} {a2 : Int32} {z : (XS × Int32)} (hfl : l.stackTraces = false) (S : CallFix p m c cc nL s args lw_all own) (hl : lv_has ls nL lv) (hE : gEX s) (hK : va_K D clA (tysG ct) s) (hH : GH D A (xAs a) H0 (WX ct a ρ st) H locs) (hZ : vx_Zq Bundle.tN "UNASSIGNED_STACK" Bundle.steD (gA (xAs a) H.size) s H ∧ vx_Zq Bundle.tN "SUPPRESSED_SENTINEL" Bundle.listD (gA (xAs a) H.size) s H) (hM : modulesRight_1 s = true) (hlk : Cond.methodLink own idx yX0_mark ∈ lw_all) (hv : X_mark st a1 a2 = some z) (hR : 11 ≤ R.frames ∧ 10344 ≤ R.locals) (hsum : (rest.map fun v => v.category).sum ≤ 8) (hdg : decode cc pc = .ok (.invokevirtual idx, 3)) (hf : cells + 3 ≤ R.cells ∧ slots + 1010 ≤ R.slots)
    (k : ∀ (H1 : Heap) (locs1 : List Loc), GH D A (xAs a) H0 (WX ct a ρ z.1) H1 locs1 → W p l e R s m args below meth c H1 locs1 (cells + 3) (slots + 1010) Q (F0 m (pc + 3) ls (.int z.2 :: rest))) : W p l e R s m args below meth c H locs cells slots Q (F0 m pc ls (.int a2 :: .int a1 :: .ref (ah a 0) :: rest)) :=
  gm_calli (av := [.int a1, .int a2]) S hl hE hM hK hH hZ (met_X_mark l hfl D ct a ρ H.size st a1 a2 z hv) (lw_VW hlk q582 q583 q69 q584) rfl rfl ⟨rfl, by decide, by decide, by show (parseMethodDescriptor yX0_mark.desc).map (fun d => d.parameters.length) = some 2; decide +kernel⟩ hR (x_recv hK hH) (fun _ h => Or.inl h) rfl hsum hdg hf k
end CR_X_mark
