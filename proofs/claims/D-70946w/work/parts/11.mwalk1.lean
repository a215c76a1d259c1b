set_option maxRecDepth 100000
/-! CapCouncilModel.isIn (III)Z -/
def M_isIn (st : MS) (a1 : Int32) (a2 : Int32) (a3 : Int32) : Option Int32 :=
  (bs_ld (ma st 0) 84 ((2 : Int32) + a1)).bind fun v1 =>
  (bs_ld (ma st 0) 84 ((7 : Int32) + a1)).bind fun v2 =>
  (bs_ld (ma st 0) 84 ((12 : Int32) + a1)).bind fun v3 =>
  (M_isWithin v1 v2 v3 a3 a2).bind fun v4 =>
  bs_gb v4 (some v4)
def rm_M_isIn : Room := { frames := 2, cells := 0, slots := 0, locals := 50 }
set_option maxHeartbeats 4000000 in
set_option maxRecDepth 100000 in
theorem met_M_isIn (l : Launch) (D : va_G) (ct : Nat → ClassId) (h : Nat → Nat) (sz : Nat) (st : MS) (a1 : Int32) (a2 : Int32) (a3 : Int32) (z : Int32) (hd : M_isIn st a1 a2 a3 = some z) : Met l yX1_isIn (ws_ yX1_isIn cX1_isIn 4 (some .boolean)) rm_M_isIn (GPre gE_0 D ct (mAs h) (WM ct h st) sz [.ref (h 0), .int a1, .int a2, .int a3]) (vp_Si (fun r => r = z)) 0 0 (fun _ => False) := by
  refine g_met (cc := cX1_isIn) (maxL := 4) (ret := (some .boolean)) (by decide) (Nat.le_of_ble_eq_true rfl) ?_
  intro p e U m args below meth c ls S hr hlk hK hH hE hsz hl
  have S : CallFix p m c cX1_isIn 4 U args lw_all RX1 := S
  have hx := S.1
  have hb := S.2.1
  have hl : lv_has ls 4 [(0, .ref (h 0)), (1, .int a1), (2, .int a2), (3, .int a3)] := hl
  unfold M_isIn at hd
  refine lv_aload_n (pc := 0) hx hb dX1_isIn_0 rfl (lv_at hl 0 rfl) ?_
  refine mg_now (pc := 1) S hK hH dX1_isIn_1 ?_
  refine lv_iconst (v := (2 : Int32)) (pc := 4) hx hb dX1_isIn_4 (by decide) ?_
  refine lv_iload_n (pc := 5) hx hb dX1_isIn_5 rfl (lv_at hl 1 rfl) ?_
  refine lv_iadd (pc := 6) hx hb dX1_isIn_6 ?_
  obtain ⟨v1, hv1, hd⟩ := bs_bd hd
  refine ml_now (pc := 7) S hK hH hv1 dX1_isIn_7 ?_
  refine lv_aload_n (pc := 8) hx hb dX1_isIn_8 rfl (lv_at hl 0 rfl) ?_
  refine mg_now (pc := 9) S hK hH dX1_isIn_9 ?_
  refine lv_bipush (v := (7 : Int32)) (pc := 12) hx hb dX1_isIn_12 (by decide) ?_
  refine lv_iload_n (pc := 14) hx hb dX1_isIn_14 rfl (lv_at hl 1 rfl) ?_
  refine lv_iadd (pc := 15) hx hb dX1_isIn_15 ?_
  obtain ⟨v2, hv2, hd⟩ := bs_bd hd
  refine ml_now (pc := 16) S hK hH hv2 dX1_isIn_16 ?_
  refine lv_aload_n (pc := 17) hx hb dX1_isIn_17 rfl (lv_at hl 0 rfl) ?_
  refine mg_now (pc := 18) S hK hH dX1_isIn_18 ?_
  refine lv_bipush (v := (12 : Int32)) (pc := 21) hx hb dX1_isIn_21 (by decide) ?_
  refine lv_iload_n (pc := 23) hx hb dX1_isIn_23 rfl (lv_at hl 1 rfl) ?_
  refine lv_iadd (pc := 24) hx hb dX1_isIn_24 ?_
  obtain ⟨v3, hv3, hd⟩ := bs_bd hd
  refine ml_now (pc := 25) S hK hH hv3 dX1_isIn_25 ?_
  refine lv_iload_n (pc := 26) hx hb dX1_isIn_26 rfl (lv_at hl 3 rfl) ?_
  refine lv_iload_n (pc := 27) hx hb dX1_isIn_27 rfl (lv_at hl 2 rfl) ?_
  obtain ⟨v4, hv4, hd⟩ := bs_bd hd
  refine call_M_isWithin (pc := 28) S hl q1089 hv4 ⟨Nat.le_of_ble_eq_true rfl, Nat.le_of_ble_eq_true rfl⟩ (Nat.le_of_ble_eq_true rfl) dX1_isIn_28 ⟨Nat.zero_le _, Nat.zero_le _⟩ ?_
  obtain ⟨hn5, hd⟩ := bs_gb_spec hd
  exact r_zret hn5 hd S hr hlk dX1_isIn_31
section CR_M_isIn
variable {p : Program} {l : Launch} {e : Env} {R : Room} {s : State} {m : MethodId} {args : Array Value} {below : List Frame} {meth : Method} {c : Code} {H : Heap} {locs : List Loc} {cells slots : Nat} {Q : State → Prop}
variable {cc : ByteArray} {pc nL idx : Nat} {ls : Array Slot} {rest : List Value} {lv : List (Nat × Value)} {A : Nat → Prop} {H0 : Heap} {own : String}
theorem call_M_isIn {D : va_G} {ct : Nat → ClassId} {h : Nat → Nat} {st : MS} {a1 : Int32} {a2 : Int32} {a3 : Int32} {z : Int32} (S : CallFix p m c cc nL s args lw_all own) (hl : lv_has ls nL lv) (hK : va_K D clA (tysG ct) s) (hH : GH D A (mAs h) H0 (WM ct h st) H locs) (hlk : Cond.methodLink own idx yX1_isIn ∈ lw_all) (hv : M_isIn st a1 a2 a3 = some z) (hR : 3 ≤ R.frames ∧ 73 ≤ R.locals) (hsum : (rest.map fun v => v.category).sum ≤ 8) (hdg : decode cc pc = .ok (.invokevirtual idx, 3)) (hf : cells ≤ R.cells ∧ slots ≤ R.slots)
    (k : W p l e R s m args below meth c H locs cells slots Q (F0 m (pc + 3) ls (.int z :: rest))) : W p l e R s m args below meth c H locs cells slots Q (F0 m pc ls (.int a3 :: .int a2 :: .int a1 :: .ref (h 0) :: rest)) :=
  r_calli (av := [.int a1, .int a2, .int a3]) S hl gE_0_ok trivial hK hH (met_M_isIn l D ct h H.size st a1 a2 a3 z hv) (lw_V hlk q1087 qs48 q70 q1088) rfl rfl ⟨rfl, by decide, by decide, by show (parseMethodDescriptor yX1_isIn.desc).map (fun d => d.parameters.length) = some 3; decide +kernel⟩ hR (m_recv hK hH) rfl hsum hdg hf k
end CR_M_isIn
/-! CapCouncilModel.bedsIn (I)I -/
def M_bedsIn_L4 (st : MS) (a1 : Int32) : Nat → Int32 → Int32 → Option Int32
  | 0, _, _ => none
  | n + 1, x2, x3 =>
    (bs_ld (ma st 0) 84 (1 : Int32)).bind fun v1 =>
    if v1 ≤ x3 then
      (some x2)
    else
      ((bs_ld (ma st 0) 84 ((72 : Int32) + x3)).bind fun v3 =>
      (bs_ld (ma st 0) 84 (70 : Int32)).bind fun v4 =>
      (M_isIn st a1 v3 v4).bind fun v5 =>
      if v5 = 0 then
        (bs_let (x2 ||| (0 : Int32)) fun w7 =>
        bs_let (x3 + (1 : Int32)) fun w8 =>
        M_bedsIn_L4 st a1 n w7 w8)
      else
        (bs_let (x2 ||| ((1 : Int32) <<< (x3 &&& 31))) fun w9 =>
        bs_let (x3 + (1 : Int32)) fun w10 =>
        M_bedsIn_L4 st a1 n w9 w10))
def M_bedsIn (st : MS) (a1 : Int32) : Option Int32 :=
  M_bedsIn_L4 st a1 bs_fu (0 : Int32) (0 : Int32)
def rm_M_bedsIn : Room := { frames := 3, cells := 0, slots := 0, locals := 73 }
set_option maxHeartbeats 4000000 in
set_option maxRecDepth 100000 in
theorem met_M_bedsIn (l : Launch) (D : va_G) (ct : Nat → ClassId) (h : Nat → Nat) (sz : Nat) (st : MS) (a1 : Int32) (z : Int32) (hd : M_bedsIn st a1 = some z) : Met l yX1_bedsIn (ws_ yX1_bedsIn cX1_bedsIn 4 (some .int)) rm_M_bedsIn (GPre gE_0 D ct (mAs h) (WM ct h st) sz [.ref (h 0), .int a1]) (vp_Si (fun r => r = z)) 0 0 (fun _ => False) := by
  refine g_met (cc := cX1_bedsIn) (maxL := 4) (ret := (some .int)) (by decide) (Nat.le_of_ble_eq_true rfl) ?_
  intro p e U m args below meth c ls S hr hlk hK hH hE hsz hl
  have S : CallFix p m c cX1_bedsIn 4 U args lw_all RX1 := S
  have hx := S.1
  have hb := S.2.1
  have hl : lv_has ls 4 [(0, .ref (h 0)), (1, .int a1)] := hl
  have h4 : ∀ (n4 : Nat) (x2 : Int32) (x3 : Int32) (ls : Array Slot), lv_has ls 4 [(0, .ref (h 0)), (1, .int a1), (2, .int x2), (3, .int x3)] → M_bedsIn_L4 st a1 n4 x2 x3 = some z → W p l e rm_M_bedsIn U m args below meth c U.heap [] 0 0 (MQ below (vp_Si (fun r => r = z)) args U 0 0 (fun _ => False)) (F0 m 4 ls []) := by
    intro n4
    induction n4 with
    | zero =>
      intro x2 x3 ls hl hd
      rw [M_bedsIn_L4] at hd
      cases hd
    | succ n4 ih4 =>
      intro x2 x3 ls hl hd
      rw [M_bedsIn_L4] at hd
      refine lv_iload_n (pc := 4) hx hb dX1_bedsIn_4 rfl (lv_at hl 3 rfl) ?_
      refine lv_aload_n (pc := 5) hx hb dX1_bedsIn_5 rfl (lv_at hl 0 rfl) ?_
      refine mg_now (pc := 6) S hK hH dX1_bedsIn_6 ?_
      refine lv_iconst (v := (1 : Int32)) (pc := 9) hx hb dX1_bedsIn_9 (by decide) ?_
      obtain ⟨v1, hv1, hd⟩ := bs_bd hd
      refine ml_now (pc := 10) S hK hH hv1 dX1_bedsIn_10 ?_
      refine lv_icmp_ge (pc := 11) (tgt := 54) hx hb dX1_bedsIn_11 (by decide) (fun c2 => ?_) (fun c2 => ?_)
      · have hd := if_t c2 hd
        refine lv_iload_n (pc := 54) hx hb dX1_bedsIn_54 rfl (lv_at hl 2 rfl) ?_
        exact r_iret hd S hr hlk dX1_bedsIn_55
      · have hd := if_n c2 hd
        refine lv_iload_n (pc := 14) hx hb dX1_bedsIn_14 rfl (lv_at hl 2 rfl) ?_
        refine lv_aload_n (pc := 15) hx hb dX1_bedsIn_15 rfl (lv_at hl 0 rfl) ?_
        refine lv_iload_n (pc := 16) hx hb dX1_bedsIn_16 rfl (lv_at hl 1 rfl) ?_
        refine lv_aload_n (pc := 17) hx hb dX1_bedsIn_17 rfl (lv_at hl 0 rfl) ?_
        refine mg_now (pc := 18) S hK hH dX1_bedsIn_18 ?_
        refine lv_bipush (v := (72 : Int32)) (pc := 21) hx hb dX1_bedsIn_21 (by decide) ?_
        refine lv_iload_n (pc := 23) hx hb dX1_bedsIn_23 rfl (lv_at hl 3 rfl) ?_
        refine lv_iadd (pc := 24) hx hb dX1_bedsIn_24 ?_
        obtain ⟨v3, hv3, hd⟩ := bs_bd hd
        refine ml_now (pc := 25) S hK hH hv3 dX1_bedsIn_25 ?_
        refine lv_aload_n (pc := 26) hx hb dX1_bedsIn_26 rfl (lv_at hl 0 rfl) ?_
        refine mg_now (pc := 27) S hK hH dX1_bedsIn_27 ?_
        refine lv_bipush (v := (70 : Int32)) (pc := 30) hx hb dX1_bedsIn_30 (by decide) ?_
        obtain ⟨v4, hv4, hd⟩ := bs_bd hd
        refine ml_now (pc := 32) S hK hH hv4 dX1_bedsIn_32 ?_
        obtain ⟨v5, hv5, hd⟩ := bs_bd hd
        refine call_M_isIn (pc := 33) S hl hK hH q1085 hv5 ⟨Nat.le_of_ble_eq_true rfl, Nat.le_of_ble_eq_true rfl⟩ (Nat.le_of_ble_eq_true rfl) dX1_bedsIn_33 ⟨Nat.zero_le _, Nat.zero_le _⟩ ?_
        refine lv_if_eq (pc := 36) (tgt := 45) hx hb dX1_bedsIn_36 (by decide) (fun c6 => ?_) (fun c6 => ?_)
        · have hd := if_t c6 hd
          refine lv_iconst (v := (0 : Int32)) (pc := 45) hx hb dX1_bedsIn_45 (by decide) ?_
          refine lv_ior (pc := 46) hx hb dX1_bedsIn_46 ?_
          obtain ⟨w7, ew7, hd⟩ := bs_let_spec hd
          refine lv_topE (pc := 47) ew7 ?_
          refine lv_istore_n (pc := 47) (lv' := [(2, .int w7), (0, .ref (h 0)), (1, .int a1), (3, .int x3)]) hx hb dX1_bedsIn_47 rfl hl (by decide) rfl (fun ls hl => ?_)
          obtain ⟨w8, ew8, hd⟩ := bs_let_spec hd
          refine lv_iinc (pc := 48) (v := w8) (lv' := [(3, .int w8), (2, .int w7), (0, .ref (h 0)), (1, .int a1)]) hx hb dX1_bedsIn_48 hl (k := 3) rfl (by rw [ew8]; rfl) (by decide) rfl (fun ls hl => ?_)
          refine lv_goto (pc := 51) (tgt := 4) hx hb dX1_bedsIn_51 (by decide) ?_
          exact ih4 w7 w8 _ (lv_sub hl [2, 3, 1, 0] rfl) hd
        · have hd := if_n c6 hd
          refine lv_iconst (v := (1 : Int32)) (pc := 39) hx hb dX1_bedsIn_39 (by decide) ?_
          refine lv_iload_n (pc := 40) hx hb dX1_bedsIn_40 rfl (lv_at hl 3 rfl) ?_
          refine lv_ishl (pc := 41) hx hb dX1_bedsIn_41 ?_
          refine lv_goto (pc := 42) (tgt := 46) hx hb dX1_bedsIn_42 (by decide) ?_
          refine lv_ior (pc := 46) hx hb dX1_bedsIn_46 ?_
          obtain ⟨w9, ew9, hd⟩ := bs_let_spec hd
          refine lv_topE (pc := 47) ew9 ?_
          refine lv_istore_n (pc := 47) (lv' := [(2, .int w9), (0, .ref (h 0)), (1, .int a1), (3, .int x3)]) hx hb dX1_bedsIn_47 rfl hl (by decide) rfl (fun ls hl => ?_)
          obtain ⟨w10, ew10, hd⟩ := bs_let_spec hd
          refine lv_iinc (pc := 48) (v := w10) (lv' := [(3, .int w10), (2, .int w9), (0, .ref (h 0)), (1, .int a1)]) hx hb dX1_bedsIn_48 hl (k := 3) rfl (by rw [ew10]; rfl) (by decide) rfl (fun ls hl => ?_)
          refine lv_goto (pc := 51) (tgt := 4) hx hb dX1_bedsIn_51 (by decide) ?_
          exact ih4 w9 w10 _ (lv_sub hl [2, 3, 1, 0] rfl) hd
  unfold M_bedsIn at hd
  refine lv_iconst (v := (0 : Int32)) (pc := 0) hx hb dX1_bedsIn_0 (by decide) ?_
  refine lv_istore_n (pc := 1) (lv' := [(2, .int (0 : Int32)), (0, .ref (h 0)), (1, .int a1)]) hx hb dX1_bedsIn_1 rfl hl (by decide) rfl (fun ls hl => ?_)
  refine lv_iconst (v := (0 : Int32)) (pc := 2) hx hb dX1_bedsIn_2 (by decide) ?_
  refine lv_istore_n (pc := 3) (lv' := [(3, .int (0 : Int32)), (2, .int (0 : Int32)), (0, .ref (h 0)), (1, .int a1)]) hx hb dX1_bedsIn_3 rfl hl (by decide) rfl (fun ls hl => ?_)
  exact h4 bs_fu (0 : Int32) (0 : Int32) _ (lv_sub hl [2, 3, 1, 0] rfl) hd
section CR_M_bedsIn
variable {p : Program} {l : Launch} {e : Env} {R : Room} {s : State} {m : MethodId} {args : Array Value} {below : List Frame} {meth : Method} {c : Code} {H : Heap} {locs : List Loc} {cells slots : Nat} {Q : State → Prop}
variable {cc : ByteArray} {pc nL idx : Nat} {ls : Array Slot} {rest : List Value} {lv : List (Nat × Value)} {A : Nat → Prop} {H0 : Heap} {own : String}
theorem call_M_bedsIn {D : va_G} {ct : Nat → ClassId} {h : Nat → Nat} {st : MS} {a1 : Int32} {z : Int32} (S : CallFix p m c cc nL s args lw_all own) (hl : lv_has ls nL lv) (hK : va_K D clA (tysG ct) s) (hH : GH D A (mAs h) H0 (WM ct h st) H locs) (hlk : Cond.methodLink own idx yX1_bedsIn ∈ lw_all) (hv : M_bedsIn st a1 = some z) (hR : 4 ≤ R.frames ∧ 96 ≤ R.locals) (hsum : (rest.map fun v => v.category).sum ≤ 8) (hdg : decode cc pc = .ok (.invokevirtual idx, 3)) (hf : cells ≤ R.cells ∧ slots ≤ R.slots)
    (k : W p l e R s m args below meth c H locs cells slots Q (F0 m (pc + 3) ls (.int z :: rest))) : W p l e R s m args below meth c H locs cells slots Q (F0 m pc ls (.int a1 :: .ref (h 0) :: rest)) :=
  r_calli (av := [.int a1]) S hl gE_0_ok trivial hK hH (met_M_bedsIn l D ct h H.size st a1 z hv) (lw_V hlk q1083 qs47 q70 q1084) rfl rfl ⟨rfl, by decide, by decide, by show (parseMethodDescriptor yX1_bedsIn.desc).map (fun d => d.parameters.length) = some 1; decide +kernel⟩ hR (m_recv hK hH) rfl hsum hdg hf k
end CR_M_bedsIn
/-! CapCouncilModel.decided (I)I -/
def M_decided_L4 (k44 : Int32 → Option Int32) (st : MS) (a1 : Int32) : Nat → Int32 → Int32 → Option Int32
  | 0, _, _ => none
  | n + 1, x2, x3 =>
    (bs_ld (ma st 0) 84 (1 : Int32)).bind fun v1 =>
    if v1 ≤ x3 then
      (k44 x2)
    else
      ((M_has a1 x3).bind fun v3 =>
      if v3 = 0 then
        (bs_let (x2 + (0 : Int32)) fun w5 =>
        bs_let (x3 + (1 : Int32)) fun w6 =>
        M_decided_L4 k44 st a1 n w5 w6)
      else
        ((bs_ld (ma st 0) 84 ((78 : Int32) + x3)).bind fun v7 =>
        bs_let (x2 + v7) fun w8 =>
        bs_let (x3 + (1 : Int32)) fun w9 =>
        M_decided_L4 k44 st a1 n w8 w9))
def M_decided_J44 (st : MS) (a1 : Int32) (x2 : Int32) : Option Int32 :=
  if a1 = 0 then
    (some (-9 : Int32))
  else
    (some (x2 - x2 / (10 : Int32) * (10 : Int32)))
def M_decided (st : MS) (a1 : Int32) : Option Int32 :=
  M_decided_L4 (M_decided_J44 st a1) st a1 bs_fu (0 : Int32) (0 : Int32)
def rm_M_decided : Room := { frames := 1, cells := 0, slots := 0, locals := 21 }
set_option maxHeartbeats 4000000 in
set_option maxRecDepth 100000 in
theorem met_M_decided (l : Launch) (D : va_G) (ct : Nat → ClassId) (h : Nat → Nat) (sz : Nat) (st : MS) (a1 : Int32) (z : Int32) (hd : M_decided st a1 = some z) : Met l yX1_decided (ws_ yX1_decided cX1_decided 4 (some .int)) rm_M_decided (GPre gE_0 D ct (mAs h) (WM ct h st) sz [.ref (h 0), .int a1]) (vp_Si (fun r => r = z)) 0 0 (fun _ => False) := by
  refine g_met (cc := cX1_decided) (maxL := 4) (ret := (some .int)) (by decide) (Nat.le_of_ble_eq_true rfl) ?_
  intro p e U m args below meth c ls S hr hlk hK hH hE hsz hl
  have S : CallFix p m c cX1_decided 4 U args lw_all RX1 := S
  have hx := S.1
  have hb := S.2.1
  have hl : lv_has ls 4 [(0, .ref (h 0)), (1, .int a1)] := hl
  have h44 : ∀ (x2 : Int32) (ls : Array Slot), lv_has ls 4 [(0, .ref (h 0)), (1, .int a1), (2, .int x2)] → M_decided_J44 st a1 x2 = some z → W p l e rm_M_decided U m args below meth c U.heap [] 0 0 (MQ below (vp_Si (fun r => r = z)) args U 0 0 (fun _ => False)) (F0 m 44 ls []) := by
    intro x2 ls hl hd
    unfold M_decided_J44 at hd
    refine lv_iload_n (pc := 44) hx hb dX1_decided_44 rfl (lv_at hl 1 rfl) ?_
    refine lv_if_ne (pc := 45) (tgt := 53) hx hb dX1_decided_45 (by decide) (fun c10 => ?_) (fun c10 => ?_)
    · have hd := if_n c10 hd
      refine lv_iload_n (pc := 53) hx hb dX1_decided_53 rfl (lv_at hl 2 rfl) ?_
      refine lv_bipush (v := (10 : Int32)) (pc := 54) hx hb dX1_decided_54 (by decide) ?_
      refine lv_irem (pc := 56) hx hb dX1_decided_56 (by decide) ?_
      exact r_iret hd S hr hlk dX1_decided_57
    · have hd := if_t c10 hd
      refine lv_bipush (v := (-9 : Int32)) (pc := 48) hx hb dX1_decided_48 (by decide) ?_
      refine lv_goto (pc := 50) (tgt := 57) hx hb dX1_decided_50 (by decide) ?_
      exact r_iret hd S hr hlk dX1_decided_57
  have h4 : ∀ (n4 : Nat) (x2 : Int32) (x3 : Int32) (ls : Array Slot), lv_has ls 4 [(0, .ref (h 0)), (1, .int a1), (2, .int x2), (3, .int x3)] → M_decided_L4 (M_decided_J44 st a1) st a1 n4 x2 x3 = some z → W p l e rm_M_decided U m args below meth c U.heap [] 0 0 (MQ below (vp_Si (fun r => r = z)) args U 0 0 (fun _ => False)) (F0 m 4 ls []) := by
    intro n4
    induction n4 with
    | zero =>
      intro x2 x3 ls hl hd
      rw [M_decided_L4] at hd
      cases hd
    | succ n4 ih4 =>
      intro x2 x3 ls hl hd
      rw [M_decided_L4] at hd
      refine lv_iload_n (pc := 4) hx hb dX1_decided_4 rfl (lv_at hl 3 rfl) ?_
      refine lv_aload_n (pc := 5) hx hb dX1_decided_5 rfl (lv_at hl 0 rfl) ?_
      refine mg_now (pc := 6) S hK hH dX1_decided_6 ?_
      refine lv_iconst (v := (1 : Int32)) (pc := 9) hx hb dX1_decided_9 (by decide) ?_
      obtain ⟨v1, hv1, hd⟩ := bs_bd hd
      refine ml_now (pc := 10) S hK hH hv1 dX1_decided_10 ?_
      refine lv_icmp_ge (pc := 11) (tgt := 44) hx hb dX1_decided_11 (by decide) (fun c2 => ?_) (fun c2 => ?_)
      · have hd := if_t c2 hd
        exact h44 x2 _ (lv_sub hl [0, 1, 2] rfl) hd
      · have hd := if_n c2 hd
        refine lv_iload_n (pc := 14) hx hb dX1_decided_14 rfl (lv_at hl 2 rfl) ?_
        refine lv_iload_n (pc := 15) hx hb dX1_decided_15 rfl (lv_at hl 1 rfl) ?_
        refine lv_iload_n (pc := 16) hx hb dX1_decided_16 rfl (lv_at hl 3 rfl) ?_
        obtain ⟨v3, hv3, hd⟩ := bs_bd hd
        refine call_M_has (pc := 17) S hl q1075 hv3 ⟨Nat.le_of_ble_eq_true rfl, Nat.le_of_ble_eq_true rfl⟩ (Nat.le_of_ble_eq_true rfl) dX1_decided_17 ⟨Nat.zero_le _, Nat.zero_le _⟩ ?_
        refine lv_if_eq (pc := 20) (tgt := 35) hx hb dX1_decided_20 (by decide) (fun c4 => ?_) (fun c4 => ?_)
        · have hd := if_t c4 hd
          refine lv_iconst (v := (0 : Int32)) (pc := 35) hx hb dX1_decided_35 (by decide) ?_
          refine lv_iadd (pc := 36) hx hb dX1_decided_36 ?_
          obtain ⟨w5, ew5, hd⟩ := bs_let_spec hd
          refine lv_topE (pc := 37) ew5 ?_
          refine lv_istore_n (pc := 37) (lv' := [(2, .int w5), (0, .ref (h 0)), (1, .int a1), (3, .int x3)]) hx hb dX1_decided_37 rfl hl (by decide) rfl (fun ls hl => ?_)
          obtain ⟨w6, ew6, hd⟩ := bs_let_spec hd
          refine lv_iinc (pc := 38) (v := w6) (lv' := [(3, .int w6), (2, .int w5), (0, .ref (h 0)), (1, .int a1)]) hx hb dX1_decided_38 hl (k := 3) rfl (by rw [ew6]; rfl) (by decide) rfl (fun ls hl => ?_)
          refine lv_goto (pc := 41) (tgt := 4) hx hb dX1_decided_41 (by decide) ?_
          exact ih4 w5 w6 _ (lv_sub hl [2, 3, 1, 0] rfl) hd
        · have hd := if_n c4 hd
          refine lv_aload_n (pc := 23) hx hb dX1_decided_23 rfl (lv_at hl 0 rfl) ?_
          refine mg_now (pc := 24) S hK hH dX1_decided_24 ?_
          refine lv_bipush (v := (78 : Int32)) (pc := 27) hx hb dX1_decided_27 (by decide) ?_
          refine lv_iload_n (pc := 29) hx hb dX1_decided_29 rfl (lv_at hl 3 rfl) ?_
          refine lv_iadd (pc := 30) hx hb dX1_decided_30 ?_
          obtain ⟨v7, hv7, hd⟩ := bs_bd hd
          refine ml_now (pc := 31) S hK hH hv7 dX1_decided_31 ?_
          refine lv_goto (pc := 32) (tgt := 36) hx hb dX1_decided_32 (by decide) ?_
          refine lv_iadd (pc := 36) hx hb dX1_decided_36 ?_
          obtain ⟨w8, ew8, hd⟩ := bs_let_spec hd
          refine lv_topE (pc := 37) ew8 ?_
          refine lv_istore_n (pc := 37) (lv' := [(2, .int w8), (0, .ref (h 0)), (1, .int a1), (3, .int x3)]) hx hb dX1_decided_37 rfl hl (by decide) rfl (fun ls hl => ?_)
          obtain ⟨w9, ew9, hd⟩ := bs_let_spec hd
          refine lv_iinc (pc := 38) (v := w9) (lv' := [(3, .int w9), (2, .int w8), (0, .ref (h 0)), (1, .int a1)]) hx hb dX1_decided_38 hl (k := 3) rfl (by rw [ew9]; rfl) (by decide) rfl (fun ls hl => ?_)
          refine lv_goto (pc := 41) (tgt := 4) hx hb dX1_decided_41 (by decide) ?_
          exact ih4 w8 w9 _ (lv_sub hl [2, 3, 1, 0] rfl) hd
  unfold M_decided at hd
  refine lv_iconst (v := (0 : Int32)) (pc := 0) hx hb dX1_decided_0 (by decide) ?_
  refine lv_istore_n (pc := 1) (lv' := [(2, .int (0 : Int32)), (0, .ref (h 0)), (1, .int a1)]) hx hb dX1_decided_1 rfl hl (by decide) rfl (fun ls hl => ?_)
  refine lv_iconst (v := (0 : Int32)) (pc := 2) hx hb dX1_decided_2 (by decide) ?_
  refine lv_istore_n (pc := 3) (lv' := [(3, .int (0 : Int32)), (2, .int (0 : Int32)), (0, .ref (h 0)), (1, .int a1)]) hx hb dX1_decided_3 rfl hl (by decide) rfl (fun ls hl => ?_)
  exact h4 bs_fu (0 : Int32) (0 : Int32) _ (lv_sub hl [2, 3, 1, 0] rfl) hd
section CR_M_decided
variable {p : Program} {l : Launch} {e : Env} {R : Room} {s : State} {m : MethodId} {args : Array Value} {below : List Frame} {meth : Method} {c : Code} {H : Heap} {locs : List Loc} {cells slots : Nat} {Q : State → Prop}
variable {cc : ByteArray} {pc nL idx : Nat} {ls : Array Slot} {rest : List Value} {lv : List (Nat × Value)} {A : Nat → Prop} {H0 : Heap} {own : String}
theorem call_M_decided {D : va_G} {ct : Nat → ClassId} {h : Nat → Nat} {st : MS} {a1 : Int32} {z : Int32} (S : CallFix p m c cc nL s args lw_all own) (hl : lv_has ls nL lv) (hK : va_K D clA (tysG ct) s) (hH : GH D A (mAs h) H0 (WM ct h st) H locs) (hlk : Cond.methodLink own idx yX1_decided ∈ lw_all) (hv : M_decided st a1 = some z) (hR : 2 ≤ R.frames ∧ 44 ≤ R.locals) (hsum : (rest.map fun v => v.category).sum ≤ 8) (hdg : decode cc pc = .ok (.invokevirtual idx, 3)) (hf : cells ≤ R.cells ∧ slots ≤ R.slots)
    (k : W p l e R s m args below meth c H locs cells slots Q (F0 m (pc + 3) ls (.int z :: rest))) : W p l e R s m args below meth c H locs cells slots Q (F0 m pc ls (.int a1 :: .ref (h 0) :: rest)) :=
  r_calli (av := [.int a1]) S hl gE_0_ok trivial hK hH (met_M_decided l D ct h H.size st a1 z hv) (lw_V hlk q1097 qs49 q70 q1098) rfl rfl ⟨rfl, by decide, by decide, by show (parseMethodDescriptor yX1_decided.desc).map (fun d => d.parameters.length) = some 1; decide +kernel⟩ hR (m_recv hK hH) rfl hsum hdg hf k
end CR_M_decided
/-! CapCouncilModel.toldOfRing (II)I -/
def M_toldOfRing (st : MS) (a1 : Int32) (a2 : Int32) : Option Int32 :=
  (bs_ld (ma st 0) 84 (71 : Int32)).bind fun v1 =>
  (M_has v1 a1).bind fun v2 =>
  if a2 = (0 : Int32) then
    ((bs_ld (ma st 0) 84 ((2 : Int32) + a1)).bind fun v4 =>
    some v4)
  else
  if a2 = (1 : Int32) then
    ((bs_ld (ma st 0) 84 ((7 : Int32) + a1)).bind fun v6 =>
    some v6)
  else
  if a2 = (2 : Int32) then
    ((bs_ld (ma st 0) 84 ((12 : Int32) + a1)).bind fun v8 =>
    some v8)
  else
  if a2 = (3 : Int32) then
    ((bs_ld (ma st 0) 84 ((12 : Int32) + a1)).bind fun v10 =>
    (bs_ld (ma st 0) 84 (70 : Int32)).bind fun v11 =>
    (M_reachOf v10 v11).bind fun v12 =>
    some v12)
  else
  if a2 = (4 : Int32) then
    (if v2 = 0 then
      (some (0 : Int32))
    else
      (some (1 : Int32)))
  else
  if a2 = (5 : Int32) then
    (if v2 = 0 then
      (some (0 : Int32))
    else
      ((M_bedsIn st a1).bind fun v17 =>
      some v17))
  else
    (if v2 = 0 then
      (some (-9 : Int32))
    else
      ((M_bedsIn st a1).bind fun v19 =>
      (M_decided st v19).bind fun v20 =>
      some v20))
def rm_M_toldOfRing : Room := { frames := 4, cells := 0, slots := 0, locals := 96 }
set_option maxHeartbeats 4000000 in
set_option maxRecDepth 100000 in
theorem met_M_toldOfRing (l : Launch) (D : va_G) (ct : Nat → ClassId) (h : Nat → Nat) (sz : Nat) (st : MS) (a1 : Int32) (a2 : Int32) (z : Int32) (hd : M_toldOfRing st a1 a2 = some z) : Met l yX1_toldOfRing (ws_ yX1_toldOfRing cX1_toldOfRing 4 (some .int)) rm_M_toldOfRing (GPre gE_0 D ct (mAs h) (WM ct h st) sz [.ref (h 0), .int a1, .int a2]) (vp_Si (fun r => r = z)) 0 0 (fun _ => False) := by
  refine g_met (cc := cX1_toldOfRing) (maxL := 4) (ret := (some .int)) (by decide) (Nat.le_of_ble_eq_true rfl) ?_
  intro p e U m args below meth c ls S hr hlk hK hH hE hsz hl
  have S : CallFix p m c cX1_toldOfRing 4 U args lw_all RX1 := S
  have hx := S.1
  have hb := S.2.1
  have hl : lv_has ls 4 [(0, .ref (h 0)), (1, .int a1), (2, .int a2)] := hl
  unfold M_toldOfRing at hd
  refine lv_aload_n (pc := 0) hx hb dX1_toldOfRing_0 rfl (lv_at hl 0 rfl) ?_
  refine mg_now (pc := 1) S hK hH dX1_toldOfRing_1 ?_
  refine lv_bipush (v := (71 : Int32)) (pc := 4) hx hb dX1_toldOfRing_4 (by decide) ?_
  obtain ⟨v1, hv1, hd⟩ := bs_bd hd
  refine ml_now (pc := 6) S hK hH hv1 dX1_toldOfRing_6 ?_
  refine lv_iload_n (pc := 7) hx hb dX1_toldOfRing_7 rfl (lv_at hl 1 rfl) ?_
  obtain ⟨v2, hv2, hd⟩ := bs_bd hd
  refine call_M_has (pc := 8) S hl q1075 hv2 ⟨Nat.le_of_ble_eq_true rfl, Nat.le_of_ble_eq_true rfl⟩ (Nat.le_of_ble_eq_true rfl) dX1_toldOfRing_8 ⟨Nat.zero_le _, Nat.zero_le _⟩ ?_
  refine lv_istore_n (pc := 11) (lv' := [(3, .int v2), (0, .ref (h 0)), (1, .int a1), (2, .int a2)]) hx hb dX1_toldOfRing_11 rfl hl (by decide) rfl (fun ls hl => ?_)
  refine lv_iload_n (pc := 12) hx hb dX1_toldOfRing_12 rfl (lv_at hl 3 rfl) ?_
  by_cases c3 : a2 = (0 : Int32)
  · have hd := if_t c3 hd
    refine lv_tabE (pc := 13) (off := 39) (tgt := 52) hx hb dX1_toldOfRing_13 c3 (by decide) (by decide) rfl (by decide) ?_
    refine lv_aload_n (pc := 52) hx hb dX1_toldOfRing_52 rfl (lv_at hl 1 rfl) ?_
    refine mg_now (pc := 53) S hK hH dX1_toldOfRing_53 ?_
    refine lv_iconst (v := (2 : Int32)) (pc := 56) hx hb dX1_toldOfRing_56 (by decide) ?_
    refine lv_iload_n (pc := 57) hx hb dX1_toldOfRing_57 rfl (lv_at hl 2 rfl) ?_
    refine lv_iadd (pc := 58) hx hb dX1_toldOfRing_58 ?_
    obtain ⟨v4, hv4, hd⟩ := bs_bd hd
    refine ml_now (pc := 59) S hK hH hv4 dX1_toldOfRing_59 ?_
    exact r_iret hd S hr hlk dX1_toldOfRing_60
  have hd := if_n c3 hd
  by_cases c5 : a2 = (1 : Int32)
  · have hd := if_t c5 hd
    refine lv_tabE (pc := 13) (off := 48) (tgt := 61) hx hb dX1_toldOfRing_13 c5 (by decide) (by decide) rfl (by decide) ?_
    refine lv_aload_n (pc := 61) hx hb dX1_toldOfRing_61 rfl (lv_at hl 1 rfl) ?_
    refine mg_now (pc := 62) S hK hH dX1_toldOfRing_62 ?_
    refine lv_bipush (v := (7 : Int32)) (pc := 65) hx hb dX1_toldOfRing_65 (by decide) ?_
    refine lv_iload_n (pc := 67) hx hb dX1_toldOfRing_67 rfl (lv_at hl 2 rfl) ?_
    refine lv_iadd (pc := 68) hx hb dX1_toldOfRing_68 ?_
    obtain ⟨v6, hv6, hd⟩ := bs_bd hd
    refine ml_now (pc := 69) S hK hH hv6 dX1_toldOfRing_69 ?_
    exact r_iret hd S hr hlk dX1_toldOfRing_70
  have hd := if_n c5 hd
  by_cases c7 : a2 = (2 : Int32)
  · have hd := if_t c7 hd
    refine lv_tabE (pc := 13) (off := 58) (tgt := 71) hx hb dX1_toldOfRing_13 c7 (by decide) (by decide) rfl (by decide) ?_
    refine lv_aload_n (pc := 71) hx hb dX1_toldOfRing_71 rfl (lv_at hl 1 rfl) ?_
    refine mg_now (pc := 72) S hK hH dX1_toldOfRing_72 ?_
    refine lv_bipush (v := (12 : Int32)) (pc := 75) hx hb dX1_toldOfRing_75 (by decide) ?_
    refine lv_iload_n (pc := 77) hx hb dX1_toldOfRing_77 rfl (lv_at hl 2 rfl) ?_
    refine lv_iadd (pc := 78) hx hb dX1_toldOfRing_78 ?_
    obtain ⟨v8, hv8, hd⟩ := bs_bd hd
    refine ml_now (pc := 79) S hK hH hv8 dX1_toldOfRing_79 ?_
    exact r_iret hd S hr hlk dX1_toldOfRing_80
  have hd := if_n c7 hd
  by_cases c9 : a2 = (3 : Int32)
  · have hd := if_t c9 hd
    refine lv_tabE (pc := 13) (off := 68) (tgt := 81) hx hb dX1_toldOfRing_13 c9 (by decide) (by decide) rfl (by decide) ?_
    refine lv_aload_n (pc := 81) hx hb dX1_toldOfRing_81 rfl (lv_at hl 1 rfl) ?_
    refine mg_now (pc := 82) S hK hH dX1_toldOfRing_82 ?_
    refine lv_bipush (v := (12 : Int32)) (pc := 85) hx hb dX1_toldOfRing_85 (by decide) ?_
    refine lv_iload_n (pc := 87) hx hb dX1_toldOfRing_87 rfl (lv_at hl 2 rfl) ?_
    refine lv_iadd (pc := 88) hx hb dX1_toldOfRing_88 ?_
    obtain ⟨v10, hv10, hd⟩ := bs_bd hd
    refine ml_now (pc := 89) S hK hH hv10 dX1_toldOfRing_89 ?_
    refine lv_aload_n (pc := 90) hx hb dX1_toldOfRing_90 rfl (lv_at hl 1 rfl) ?_
    refine mg_now (pc := 91) S hK hH dX1_toldOfRing_91 ?_
    refine lv_bipush (v := (70 : Int32)) (pc := 94) hx hb dX1_toldOfRing_94 (by decide) ?_
    obtain ⟨v11, hv11, hd⟩ := bs_bd hd
    refine ml_now (pc := 96) S hK hH hv11 dX1_toldOfRing_96 ?_
    obtain ⟨v12, hv12, hd⟩ := bs_bd hd
    refine call_M_reachOf (pc := 97) S hl q1078 hv12 ⟨Nat.le_of_ble_eq_true rfl, Nat.le_of_ble_eq_true rfl⟩ (Nat.le_of_ble_eq_true rfl) dX1_toldOfRing_97 ⟨Nat.zero_le _, Nat.zero_le _⟩ ?_
    exact r_iret hd S hr hlk dX1_toldOfRing_100
  have hd := if_n c9 hd
  by_cases c13 : a2 = (4 : Int32)
  · have hd := if_t c13 hd
    refine lv_tabE (pc := 13) (off := 88) (tgt := 101) hx hb dX1_toldOfRing_13 c13 (by decide) (by decide) rfl (by decide) ?_
    refine lv_iload_n (pc := 101) hx hb dX1_toldOfRing_101 rfl (lv_at hl 0 rfl) ?_
    refine lv_if_eq (pc := 102) (tgt := 109) hx hb dX1_toldOfRing_102 (by decide) (fun c14 => ?_) (fun c14 => ?_)
    · have hd := if_t c14 hd
      refine lv_iconst (v := (0 : Int32)) (pc := 109) hx hb dX1_toldOfRing_109 (by decide) ?_
      exact r_iret hd S hr hlk dX1_toldOfRing_110
    · have hd := if_n c14 hd
      refine lv_iconst (v := (1 : Int32)) (pc := 105) hx hb dX1_toldOfRing_105 (by decide) ?_
      refine lv_goto (pc := 106) (tgt := 110) hx hb dX1_toldOfRing_106 (by decide) ?_
      exact r_iret hd S hr hlk dX1_toldOfRing_110
  have hd := if_n c13 hd
  by_cases c15 : a2 = (5 : Int32)
  · have hd := if_t c15 hd
    refine lv_tabE (pc := 13) (off := 98) (tgt := 111) hx hb dX1_toldOfRing_13 c15 (by decide) (by decide) rfl (by decide) ?_
    refine lv_iload_n (pc := 111) hx hb dX1_toldOfRing_111 rfl (lv_at hl 0 rfl) ?_
    refine lv_if_eq (pc := 112) (tgt := 123) hx hb dX1_toldOfRing_112 (by decide) (fun c16 => ?_) (fun c16 => ?_)
    · have hd := if_t c16 hd
      refine lv_iconst (v := (0 : Int32)) (pc := 123) hx hb dX1_toldOfRing_123 (by decide) ?_
      exact r_iret hd S hr hlk dX1_toldOfRing_124
    · have hd := if_n c16 hd
      refine lv_aload_n (pc := 115) hx hb dX1_toldOfRing_115 rfl (lv_at hl 1 rfl) ?_
      refine lv_iload_n (pc := 116) hx hb dX1_toldOfRing_116 rfl (lv_at hl 2 rfl) ?_
      obtain ⟨v17, hv17, hd⟩ := bs_bd hd
      refine call_M_bedsIn (pc := 117) S hl hK hH q1081 hv17 ⟨Nat.le_of_ble_eq_true rfl, Nat.le_of_ble_eq_true rfl⟩ (Nat.le_of_ble_eq_true rfl) dX1_toldOfRing_117 ⟨Nat.zero_le _, Nat.zero_le _⟩ ?_
      refine lv_goto (pc := 120) (tgt := 124) hx hb dX1_toldOfRing_120 (by decide) ?_
      exact r_iret hd S hr hlk dX1_toldOfRing_124
  have hd := if_n c15 hd
  refine lv_tableOut (pc := 13) (tgt := 125) hx hb dX1_toldOfRing_13 (by have zc3 := lv_neT c3 (a := 0) (by decide); have zc5 := lv_neT c5 (a := 1) (by decide); have zc7 := lv_neT c7 (a := 2) (by decide); have zc9 := lv_neT c9 (a := 3) (by decide); have zc13 := lv_neT c13 (a := 4) (by decide); have zc15 := lv_neT c15 (a := 5) (by decide); omega) (by decide) ?_
  refine lv_iload_n (pc := 125) hx hb dX1_toldOfRing_125 rfl (lv_at hl 0 rfl) ?_
  refine lv_if_eq (pc := 126) (tgt := 141) hx hb dX1_toldOfRing_126 (by decide) (fun c18 => ?_) (fun c18 => ?_)
  · have hd := if_t c18 hd
    refine lv_bipush (v := (-9 : Int32)) (pc := 141) hx hb dX1_toldOfRing_141 (by decide) ?_
    exact r_iret hd S hr hlk dX1_toldOfRing_143
  · have hd := if_n c18 hd
    refine lv_aload_n (pc := 129) hx hb dX1_toldOfRing_129 rfl (lv_at hl 1 rfl) ?_
    refine lv_aload_n (pc := 130) hx hb dX1_toldOfRing_130 rfl (lv_at hl 1 rfl) ?_
    refine lv_iload_n (pc := 131) hx hb dX1_toldOfRing_131 rfl (lv_at hl 2 rfl) ?_
    obtain ⟨v19, hv19, hd⟩ := bs_bd hd
    refine call_M_bedsIn (pc := 132) S hl hK hH q1081 hv19 ⟨Nat.le_of_ble_eq_true rfl, Nat.le_of_ble_eq_true rfl⟩ (Nat.le_of_ble_eq_true rfl) dX1_toldOfRing_132 ⟨Nat.zero_le _, Nat.zero_le _⟩ ?_
    obtain ⟨v20, hv20, hd⟩ := bs_bd hd
    refine call_M_decided (pc := 135) S hl hK hH q1095 hv20 ⟨Nat.le_of_ble_eq_true rfl, Nat.le_of_ble_eq_true rfl⟩ (Nat.le_of_ble_eq_true rfl) dX1_toldOfRing_135 ⟨Nat.zero_le _, Nat.zero_le _⟩ ?_
    refine lv_goto (pc := 138) (tgt := 143) hx hb dX1_toldOfRing_138 (by decide) ?_
    exact r_iret hd S hr hlk dX1_toldOfRing_143
section CR_M_toldOfRing
variable {p : Program} {l : Launch} {e : Env} {R : Room} {s : State} {m : MethodId} {args : Array Value} {below : List Frame} {meth : Method} {c : Code} {H : Heap} {locs : List Loc} {cells slots : Nat} {Q : State → Prop}
variable {cc : ByteArray} {pc nL idx : Nat} {ls : Array Slot} {rest : List Value} {lv : List (Nat × Value)} {A : Nat → Prop} {H0 : Heap} {own : String}
theorem call_M_toldOfRing {D : va_G} {ct : Nat → ClassId} {h : Nat → Nat} {st : MS} {a1 : Int32} {a2 : Int32} {z : Int32} (S : CallFix p m c cc nL s args lw_all own) (hl : lv_has ls nL lv) (hK : va_K D clA (tysG ct) s) (hH : GH D A (mAs h) H0 (WM ct h st) H locs) (hlk : Cond.methodLink own idx yX1_toldOfRing ∈ lw_all) (hv : M_toldOfRing st a1 a2 = some z) (hR : 5 ≤ R.frames ∧ 119 ≤ R.locals) (hsum : (rest.map fun v => v.category).sum ≤ 8) (hdg : decode cc pc = .ok (.invokevirtual idx, 3)) (hf : cells ≤ R.cells ∧ slots ≤ R.slots)
    (k : W p l e R s m args below meth c H locs cells slots Q (F0 m (pc + 3) ls (.int z :: rest))) : W p l e R s m args below meth c H locs cells slots Q (F0 m pc ls (.int a2 :: .int a1 :: .ref (h 0) :: rest)) :=
  r_calli (av := [.int a1, .int a2]) S hl gE_0_ok trivial hK hH (met_M_toldOfRing l D ct h H.size st a1 a2 z hv) (lw_V hlk q1073 qs46 q70 q1074) rfl rfl ⟨rfl, by decide, by decide, by show (parseMethodDescriptor yX1_toldOfRing.desc).map (fun d => d.parameters.length) = some 2; decide +kernel⟩ hR (m_recv hK hH) rfl hsum hdg hf k
end CR_M_toldOfRing
/-! CapCouncilModel.ring (II)I -/
def M_ring (st : MS) (a1 : Int32) (a2 : Int32) : Option (MS × Int32) :=
  (M_isRing st a1).bind fun v1 =>
  if v1 = 0 then
    (some (st, (-1 : Int32)))
  else
    ((M_in (a2.toInt64) (0 : Int64) (6 : Int64)).bind fun v3 =>
    if v3 = 0 then
      (some (st, (-1 : Int32)))
    else
      ((M_toldOfRing st a1 a2).bind fun v5 =>
      (M_asks st v5).bind fun q6 =>
      some (q6.1, q6.2)))
def rm_M_ring : Room := { frames := 5, cells := 0, slots := 0, locals := 119 }
set_option maxHeartbeats 4000000 in
set_option maxRecDepth 100000 in
theorem met_M_ring (l : Launch) (D : va_G) (ct : Nat → ClassId) (h : Nat → Nat) (sz : Nat) (st : MS) (a1 : Int32) (a2 : Int32) (z : (MS × Int32)) (hd : M_ring st a1 a2 = some z) : Met l yX1_ring (ws_ yX1_ring cX1_ring 3 (some .int)) rm_M_ring (GPre gE_0 D ct (mAs h) (WM ct h st) sz [.ref (h 0), .int a1, .int a2]) (GQi D (mAs h) (mAs h) (WM ct h z.1) sz z.2) 0 0 (gA (mAs h) sz) := by
  refine g_met (cc := cX1_ring) (maxL := 3) (ret := (some .int)) (by decide) (Nat.le_of_ble_eq_true rfl) ?_
  intro p e U m args below meth c ls S hr hlk hK hH hE hsz hl
  have S : CallFix p m c cX1_ring 3 U args lw_all RX1 := S
  have hx := S.1
  have hb := S.2.1
  have hl : lv_has ls 3 [(0, .ref (h 0)), (1, .int a1), (2, .int a2)] := hl
  unfold M_ring at hd
  refine lv_aload_n (pc := 0) hx hb dX1_ring_0 rfl (lv_at hl 0 rfl) ?_
  refine lv_iload_n (pc := 1) hx hb dX1_ring_1 rfl (lv_at hl 1 rfl) ?_
  obtain ⟨v1, hv1, hd⟩ := bs_bd hd
  refine call_M_isRing (pc := 2) S hl hK hH q1066 hv1 ⟨Nat.le_of_ble_eq_true rfl, Nat.le_of_ble_eq_true rfl⟩ (Nat.le_of_ble_eq_true rfl) dX1_ring_2 ⟨Nat.zero_le _, Nat.zero_le _⟩ ?_
  refine lv_if_eq (pc := 5) (tgt := 33) hx hb dX1_ring_5 (by decide) (fun c2 => ?_) (fun c2 => ?_)
  · have hd := if_t c2 hd
    refine lv_iconst (v := (-1 : Int32)) (pc := 33) hx hb dX1_ring_33 (by decide) ?_
    exact g_iret (WM ct h) hd S hr hlk hH dX1_ring_34
  · have hd := if_n c2 hd
    refine lv_iload_n (pc := 8) hx hb dX1_ring_8 rfl (lv_at hl 2 rfl) ?_
    refine lv_i2l (pc := 9) hx hb dX1_ring_9 rfl ?_
    refine lv_lconst (v := (0 : Int64)) (pc := 10) hx hb dX1_ring_10 (by decide) ?_
    refine lv_ldc2 (pc := 11) (own := RX1) (v := (6 : Int64)) hx hb S.2.2.2.1 (S.2.2.2.2 _ q1070) dX1_ring_11 ?_
    obtain ⟨v3, hv3, hd⟩ := bs_bd hd
    refine call_M_in (pc := 14) S hl q974 hv3 ⟨Nat.le_of_ble_eq_true rfl, Nat.le_of_ble_eq_true rfl⟩ (Nat.le_of_ble_eq_true rfl) dX1_ring_14 ⟨Nat.zero_le _, Nat.zero_le _⟩ ?_
    refine lv_if_eq (pc := 17) (tgt := 33) hx hb dX1_ring_17 (by decide) (fun c4 => ?_) (fun c4 => ?_)
    · have hd := if_t c4 hd
      refine lv_iconst (v := (-1 : Int32)) (pc := 33) hx hb dX1_ring_33 (by decide) ?_
      exact g_iret (WM ct h) hd S hr hlk hH dX1_ring_34
    · have hd := if_n c4 hd
      refine lv_aload_n (pc := 20) hx hb dX1_ring_20 rfl (lv_at hl 0 rfl) ?_
      refine lv_aload_n (pc := 21) hx hb dX1_ring_21 rfl (lv_at hl 0 rfl) ?_
      refine lv_iload_n (pc := 22) hx hb dX1_ring_22 rfl (lv_at hl 1 rfl) ?_
      refine lv_iload_n (pc := 23) hx hb dX1_ring_23 rfl (lv_at hl 2 rfl) ?_
      obtain ⟨v5, hv5, hd⟩ := bs_bd hd
      refine call_M_toldOfRing (pc := 24) S hl hK hH q1071 hv5 ⟨Nat.le_of_ble_eq_true rfl, Nat.le_of_ble_eq_true rfl⟩ (Nat.le_of_ble_eq_true rfl) dX1_ring_24 ⟨Nat.zero_le _, Nat.zero_le _⟩ ?_
      obtain ⟨q6, hq6, hd⟩ := bs_bd hd
      refine call_M_asks (pc := 27) S hl hK hH q989 hq6 ⟨Nat.le_of_ble_eq_true rfl, Nat.le_of_ble_eq_true rfl⟩ (Nat.le_of_ble_eq_true rfl) dX1_ring_27 ⟨Nat.zero_le _, Nat.zero_le _⟩ (fun H locs hH => ?_)
      refine lv_goto (pc := 30) (tgt := 34) hx hb dX1_ring_30 (by decide) ?_
      exact g_iret (WM ct h) hd S hr hlk hH dX1_ring_34
section CR_M_ring
variable {p : Program} {l : Launch} {e : Env} {R : Room} {s : State} {m : MethodId} {args : Array Value} {below : List Frame} {meth : Method} {c : Code} {H : Heap} {locs : List Loc} {cells slots : Nat} {Q : State → Prop}
variable {cc : ByteArray} {pc nL idx : Nat} {ls : Array Slot} {rest : List Value} {lv : List (Nat × Value)} {A : Nat → Prop} {H0 : Heap} {own : String}
theorem call_M_ring {D : va_G} {ct : Nat → ClassId} {h : Nat → Nat} {st : MS} {a1 : Int32} {a2 : Int32} {z : (MS × Int32)} (S : CallFix p m c cc nL s args lw_all own) (hl : lv_has ls nL lv) (hK : va_K D clA (tysG ct) s) (hH : GH D A (mAs h) H0 (WM ct h st) H locs) (hlk : Cond.methodLink own idx yX1_ring ∈ lw_all) (hv : M_ring st a1 a2 = some z) (hR : 6 ≤ R.frames ∧ 141 ≤ R.locals) (hsum : (rest.map fun v => v.category).sum ≤ 8) (hdg : decode cc pc = .ok (.invokevirtual idx, 3)) (hf : cells ≤ R.cells ∧ slots ≤ R.slots)
    (k : ∀ (H1 : Heap) (locs1 : List Loc), GH D A (mAs h) H0 (WM ct h z.1) H1 locs1 → W p l e R s m args below meth c H1 locs1 cells slots Q (F0 m (pc + 3) ls (.int z.2 :: rest))) : W p l e R s m args below meth c H locs cells slots Q (F0 m pc ls (.int a2 :: .int a1 :: .ref (h 0) :: rest)) :=
  g_calli (av := [.int a1, .int a2]) S hl gE_0_ok trivial hK hH (met_M_ring l D ct h H.size st a1 a2 z hv) (lw_V hlk q1063 q1064 q70 q1065) rfl rfl ⟨rfl, by decide, by decide, by show (parseMethodDescriptor yX1_ring.desc).map (fun d => d.parameters.length) = some 2; decide +kernel⟩ hR (m_recv hK hH) (fun _ h => Or.inl h) rfl hsum hdg hf k
end CR_M_ring
/-! CapCouncilModel.isBed (I)Z -/
def M_isBed (st : MS) (a1 : Int32) : Option Int32 :=
  (bs_ld (ma st 0) 84 (1 : Int32)).bind fun v1 =>
  (M_in (a1.toInt64) (0 : Int64) (((v1 - (1 : Int32))).toInt64)).bind fun v2 =>
  bs_gb v2 (some v2)
def rm_M_isBed : Room := { frames := 1, cells := 0, slots := 0, locals := 25 }
set_option maxHeartbeats 4000000 in
set_option maxRecDepth 100000 in
theorem met_M_isBed (l : Launch) (D : va_G) (ct : Nat → ClassId) (h : Nat → Nat) (sz : Nat) (st : MS) (a1 : Int32) (z : Int32) (hd : M_isBed st a1 = some z) : Met l yX1_isBed (ws_ yX1_isBed cX1_isBed 2 (some .boolean)) rm_M_isBed (GPre gE_0 D ct (mAs h) (WM ct h st) sz [.ref (h 0), .int a1]) (vp_Si (fun r => r = z)) 0 0 (fun _ => False) := by
  refine g_met (cc := cX1_isBed) (maxL := 2) (ret := (some .boolean)) (by decide) (Nat.le_of_ble_eq_true rfl) ?_
  intro p e U m args below meth c ls S hr hlk hK hH hE hsz hl
  have S : CallFix p m c cX1_isBed 2 U args lw_all RX1 := S
  have hx := S.1
  have hb := S.2.1
  have hl : lv_has ls 2 [(0, .ref (h 0)), (1, .int a1)] := hl
  unfold M_isBed at hd
  refine lv_iload_n (pc := 0) hx hb dX1_isBed_0 rfl (lv_at hl 1 rfl) ?_
  refine lv_i2l (pc := 1) hx hb dX1_isBed_1 rfl ?_
  refine lv_lconst (v := (0 : Int64)) (pc := 2) hx hb dX1_isBed_2 (by decide) ?_
  refine lv_aload_n (pc := 3) hx hb dX1_isBed_3 rfl (lv_at hl 0 rfl) ?_
  refine mg_now (pc := 4) S hK hH dX1_isBed_4 ?_
  refine lv_iconst (v := (1 : Int32)) (pc := 7) hx hb dX1_isBed_7 (by decide) ?_
  obtain ⟨v1, hv1, hd⟩ := bs_bd hd
  refine ml_now (pc := 8) S hK hH hv1 dX1_isBed_8 ?_
  refine lv_iconst (v := (1 : Int32)) (pc := 9) hx hb dX1_isBed_9 (by decide) ?_
  refine lv_isub (pc := 10) hx hb dX1_isBed_10 ?_
  refine lv_i2l (pc := 11) hx hb dX1_isBed_11 rfl ?_
  obtain ⟨v2, hv2, hd⟩ := bs_bd hd
  refine call_M_in (pc := 12) S hl q974 hv2 ⟨Nat.le_of_ble_eq_true rfl, Nat.le_of_ble_eq_true rfl⟩ (Nat.le_of_ble_eq_true rfl) dX1_isBed_12 ⟨Nat.zero_le _, Nat.zero_le _⟩ ?_
  obtain ⟨hn3, hd⟩ := bs_gb_spec hd
  exact r_zret hn3 hd S hr hlk dX1_isBed_15
section CR_M_isBed
variable {p : Program} {l : Launch} {e : Env} {R : Room} {s : State} {m : MethodId} {args : Array Value} {below : List Frame} {meth : Method} {c : Code} {H : Heap} {locs : List Loc} {cells slots : Nat} {Q : State → Prop}
variable {cc : ByteArray} {pc nL idx : Nat} {ls : Array Slot} {rest : List Value} {lv : List (Nat × Value)} {A : Nat → Prop} {H0 : Heap} {own : String}
theorem call_M_isBed {D : va_G} {ct : Nat → ClassId} {h : Nat → Nat} {st : MS} {a1 : Int32} {z : Int32} (S : CallFix p m c cc nL s args lw_all own) (hl : lv_has ls nL lv) (hK : va_K D clA (tysG ct) s) (hH : GH D A (mAs h) H0 (WM ct h st) H locs) (hlk : Cond.methodLink own idx yX1_isBed ∈ lw_all) (hv : M_isBed st a1 = some z) (hR : 2 ≤ R.frames ∧ 46 ≤ R.locals) (hsum : (rest.map fun v => v.category).sum ≤ 8) (hdg : decode cc pc = .ok (.invokevirtual idx, 3)) (hf : cells ≤ R.cells ∧ slots ≤ R.slots)
    (k : W p l e R s m args below meth c H locs cells slots Q (F0 m (pc + 3) ls (.int z :: rest))) : W p l e R s m args below meth c H locs cells slots Q (F0 m pc ls (.int a1 :: .ref (h 0) :: rest)) :=
  r_calli (av := [.int a1]) S hl gE_0_ok trivial hK hH (met_M_isBed l D ct h H.size st a1 z hv) (lw_V hlk q1105 qs50 q70 q1106) rfl rfl ⟨rfl, by decide, by decide, by show (parseMethodDescriptor yX1_isBed.desc).map (fun d => d.parameters.length) = some 1; decide +kernel⟩ hR (m_recv hK hH) rfl hsum hdg hf k
end CR_M_isBed
/-! CapCouncilModel.ringsAt (III)I -/
def M_ringsAt_L6 (st : MS) (a1 : Int32) (a2 : Int32) (a3 : Int32) : Nat → Int32 → Int32 → Option Int32
  | 0, _, _ => none
  | n + 1, x4, x5 =>
    (bs_ld (ma st 0) 84 (0 : Int32)).bind fun v1 =>
    if v1 ≤ x5 then
      (some x4)
    else
      ((M_has a2 x5).bind fun v3 =>
      if v3 = 0 then
        (bs_let (x4 ||| (0 : Int32)) fun w5 =>
        bs_let (x5 + (1 : Int32)) fun w6 =>
        M_ringsAt_L6 st a1 a2 a3 n w5 w6)
      else
        ((M_isIn st x5 a1 a3).bind fun v7 =>
        if v7 = 0 then
          (bs_let (x4 ||| (0 : Int32)) fun w9 =>
          bs_let (x5 + (1 : Int32)) fun w10 =>
          M_ringsAt_L6 st a1 a2 a3 n w9 w10)
        else
          (bs_let (x4 ||| ((1 : Int32) <<< (x5 &&& 31))) fun w11 =>
          bs_let (x5 + (1 : Int32)) fun w12 =>
          M_ringsAt_L6 st a1 a2 a3 n w11 w12)))
def M_ringsAt (st : MS) (a1 : Int32) (a2 : Int32) (a3 : Int32) : Option Int32 :=
  M_ringsAt_L6 st a1 a2 a3 bs_fu (0 : Int32) (0 : Int32)
def rm_M_ringsAt : Room := { frames := 3, cells := 0, slots := 0, locals := 73 }
set_option maxHeartbeats 4000000 in
set_option maxRecDepth 100000 in
theorem met_M_ringsAt (l : Launch) (D : va_G) (ct : Nat → ClassId) (h : Nat → Nat) (sz : Nat) (st : MS) (a1 : Int32) (a2 : Int32) (a3 : Int32) (z : Int32) (hd : M_ringsAt st a1 a2 a3 = some z) : Met l yX1_ringsAt (ws_ yX1_ringsAt cX1_ringsAt 6 (some .int)) rm_M_ringsAt (GPre gE_0 D ct (mAs h) (WM ct h st) sz [.ref (h 0), .int a1, .int a2, .int a3]) (vp_Si (fun r => r = z)) 0 0 (fun _ => False) := by
  refine g_met (cc := cX1_ringsAt) (maxL := 6) (ret := (some .int)) (by decide) (Nat.le_of_ble_eq_true rfl) ?_
  intro p e U m args below meth c ls S hr hlk hK hH hE hsz hl
  have S : CallFix p m c cX1_ringsAt 6 U args lw_all RX1 := S
  have hx := S.1
  have hb := S.2.1
  have hl : lv_has ls 6 [(0, .ref (h 0)), (1, .int a1), (2, .int a2), (3, .int a3)] := hl
  have h6 : ∀ (n6 : Nat) (x4 : Int32) (x5 : Int32) (ls : Array Slot), lv_has ls 6 [(0, .ref (h 0)), (1, .int a1), (2, .int a2), (3, .int a3), (4, .int x4), (5, .int x5)] → M_ringsAt_L6 st a1 a2 a3 n6 x4 x5 = some z → W p l e rm_M_ringsAt U m args below meth c U.heap [] 0 0 (MQ below (vp_Si (fun r => r = z)) args U 0 0 (fun _ => False)) (F0 m 6 ls []) := by
    intro n6
    induction n6 with
    | zero =>
      intro x4 x5 ls hl hd
      rw [M_ringsAt_L6] at hd
      cases hd
    | succ n6 ih6 =>
      intro x4 x5 ls hl hd
      rw [M_ringsAt_L6] at hd
      refine lv_iload (pc := 6) hx hb dX1_ringsAt_6 (lv_at hl 5 rfl) ?_
      refine lv_aload_n (pc := 8) hx hb dX1_ringsAt_8 rfl (lv_at hl 0 rfl) ?_
      refine mg_now (pc := 9) S hK hH dX1_ringsAt_9 ?_
      refine lv_iconst (v := (0 : Int32)) (pc := 12) hx hb dX1_ringsAt_12 (by decide) ?_
      obtain ⟨v1, hv1, hd⟩ := bs_bd hd
      refine ml_now (pc := 13) S hK hH hv1 dX1_ringsAt_13 ?_
      refine lv_icmp_ge (pc := 14) (tgt := 56) hx hb dX1_ringsAt_14 (by decide) (fun c2 => ?_) (fun c2 => ?_)
      · have hd := if_t c2 hd
        refine lv_iload (pc := 56) hx hb dX1_ringsAt_56 (lv_at hl 4 rfl) ?_
        exact r_iret hd S hr hlk dX1_ringsAt_58
      · have hd := if_n c2 hd
        refine lv_iload (pc := 17) hx hb dX1_ringsAt_17 (lv_at hl 4 rfl) ?_
        refine lv_iload_n (pc := 19) hx hb dX1_ringsAt_19 rfl (lv_at hl 2 rfl) ?_
        refine lv_iload (pc := 20) hx hb dX1_ringsAt_20 (lv_at hl 5 rfl) ?_
        obtain ⟨v3, hv3, hd⟩ := bs_bd hd
        refine call_M_has (pc := 22) S hl q1075 hv3 ⟨Nat.le_of_ble_eq_true rfl, Nat.le_of_ble_eq_true rfl⟩ (Nat.le_of_ble_eq_true rfl) dX1_ringsAt_22 ⟨Nat.zero_le _, Nat.zero_le _⟩ ?_
        refine lv_if_eq (pc := 25) (tgt := 46) hx hb dX1_ringsAt_25 (by decide) (fun c4 => ?_) (fun c4 => ?_)
        · have hd := if_t c4 hd
          refine lv_iconst (v := (0 : Int32)) (pc := 46) hx hb dX1_ringsAt_46 (by decide) ?_
          refine lv_ior (pc := 47) hx hb dX1_ringsAt_47 ?_
          obtain ⟨w5, ew5, hd⟩ := bs_let_spec hd
          refine lv_topE (pc := 48) ew5 ?_
          refine lv_istore (pc := 48) (lv' := [(4, .int w5), (0, .ref (h 0)), (1, .int a1), (2, .int a2), (3, .int a3), (5, .int x5)]) hx hb dX1_ringsAt_48 hl (by decide) rfl (fun ls hl => ?_)
          obtain ⟨w6, ew6, hd⟩ := bs_let_spec hd
          refine lv_iinc (pc := 50) (v := w6) (lv' := [(5, .int w6), (4, .int w5), (0, .ref (h 0)), (1, .int a1), (2, .int a2), (3, .int a3)]) hx hb dX1_ringsAt_50 hl (k := 5) rfl (by rw [ew6]; rfl) (by decide) rfl (fun ls hl => ?_)
          refine lv_goto (pc := 53) (tgt := 6) hx hb dX1_ringsAt_53 (by decide) ?_
          exact ih6 w5 w6 _ (lv_sub hl [2, 3, 4, 5, 1, 0] rfl) hd
        · have hd := if_n c4 hd
          refine lv_aload_n (pc := 28) hx hb dX1_ringsAt_28 rfl (lv_at hl 0 rfl) ?_
          refine lv_iload (pc := 29) hx hb dX1_ringsAt_29 (lv_at hl 5 rfl) ?_
          refine lv_iload_n (pc := 31) hx hb dX1_ringsAt_31 rfl (lv_at hl 1 rfl) ?_
          refine lv_iload_n (pc := 32) hx hb dX1_ringsAt_32 rfl (lv_at hl 3 rfl) ?_
          obtain ⟨v7, hv7, hd⟩ := bs_bd hd
          refine call_M_isIn (pc := 33) S hl hK hH q1085 hv7 ⟨Nat.le_of_ble_eq_true rfl, Nat.le_of_ble_eq_true rfl⟩ (Nat.le_of_ble_eq_true rfl) dX1_ringsAt_33 ⟨Nat.zero_le _, Nat.zero_le _⟩ ?_
          refine lv_if_eq (pc := 36) (tgt := 46) hx hb dX1_ringsAt_36 (by decide) (fun c8 => ?_) (fun c8 => ?_)
          · have hd := if_t c8 hd
            refine lv_iconst (v := (0 : Int32)) (pc := 46) hx hb dX1_ringsAt_46 (by decide) ?_
            refine lv_ior (pc := 47) hx hb dX1_ringsAt_47 ?_
            obtain ⟨w9, ew9, hd⟩ := bs_let_spec hd
            refine lv_topE (pc := 48) ew9 ?_
            refine lv_istore (pc := 48) (lv' := [(4, .int w9), (0, .ref (h 0)), (1, .int a1), (2, .int a2), (3, .int a3), (5, .int x5)]) hx hb dX1_ringsAt_48 hl (by decide) rfl (fun ls hl => ?_)
            obtain ⟨w10, ew10, hd⟩ := bs_let_spec hd
            refine lv_iinc (pc := 50) (v := w10) (lv' := [(5, .int w10), (4, .int w9), (0, .ref (h 0)), (1, .int a1), (2, .int a2), (3, .int a3)]) hx hb dX1_ringsAt_50 hl (k := 5) rfl (by rw [ew10]; rfl) (by decide) rfl (fun ls hl => ?_)
            refine lv_goto (pc := 53) (tgt := 6) hx hb dX1_ringsAt_53 (by decide) ?_
            exact ih6 w9 w10 _ (lv_sub hl [2, 3, 4, 5, 1, 0] rfl) hd
          · have hd := if_n c8 hd
            refine lv_iconst (v := (1 : Int32)) (pc := 39) hx hb dX1_ringsAt_39 (by decide) ?_
            refine lv_iload (pc := 40) hx hb dX1_ringsAt_40 (lv_at hl 5 rfl) ?_
            refine lv_ishl (pc := 42) hx hb dX1_ringsAt_42 ?_
            refine lv_goto (pc := 43) (tgt := 47) hx hb dX1_ringsAt_43 (by decide) ?_
            refine lv_ior (pc := 47) hx hb dX1_ringsAt_47 ?_
            obtain ⟨w11, ew11, hd⟩ := bs_let_spec hd
            refine lv_topE (pc := 48) ew11 ?_
            refine lv_istore (pc := 48) (lv' := [(4, .int w11), (0, .ref (h 0)), (1, .int a1), (2, .int a2), (3, .int a3), (5, .int x5)]) hx hb dX1_ringsAt_48 hl (by decide) rfl (fun ls hl => ?_)
            obtain ⟨w12, ew12, hd⟩ := bs_let_spec hd
            refine lv_iinc (pc := 50) (v := w12) (lv' := [(5, .int w12), (4, .int w11), (0, .ref (h 0)), (1, .int a1), (2, .int a2), (3, .int a3)]) hx hb dX1_ringsAt_50 hl (k := 5) rfl (by rw [ew12]; rfl) (by decide) rfl (fun ls hl => ?_)
            refine lv_goto (pc := 53) (tgt := 6) hx hb dX1_ringsAt_53 (by decide) ?_
            exact ih6 w11 w12 _ (lv_sub hl [2, 3, 4, 5, 1, 0] rfl) hd
  unfold M_ringsAt at hd
  refine lv_iconst (v := (0 : Int32)) (pc := 0) hx hb dX1_ringsAt_0 (by decide) ?_
  refine lv_istore (pc := 1) (lv' := [(4, .int (0 : Int32)), (0, .ref (h 0)), (1, .int a1), (2, .int a2), (3, .int a3)]) hx hb dX1_ringsAt_1 hl (by decide) rfl (fun ls hl => ?_)
  refine lv_iconst (v := (0 : Int32)) (pc := 3) hx hb dX1_ringsAt_3 (by decide) ?_
  refine lv_istore (pc := 4) (lv' := [(5, .int (0 : Int32)), (4, .int (0 : Int32)), (0, .ref (h 0)), (1, .int a1), (2, .int a2), (3, .int a3)]) hx hb dX1_ringsAt_4 hl (by decide) rfl (fun ls hl => ?_)
  exact h6 bs_fu (0 : Int32) (0 : Int32) _ (lv_sub hl [2, 3, 4, 5, 1, 0] rfl) hd
section CR_M_ringsAt
variable {p : Program} {l : Launch} {e : Env} {R : Room} {s : State} {m : MethodId} {args : Array Value} {below : List Frame} {meth : Method} {c : Code} {H : Heap} {locs : List Loc} {cells slots : Nat} {Q : State → Prop}
variable {cc : ByteArray} {pc nL idx : Nat} {ls : Array Slot} {rest : List Value} {lv : List (Nat × Value)} {A : Nat → Prop} {H0 : Heap} {own : String}
theorem call_M_ringsAt {D : va_G} {ct : Nat → ClassId} {h : Nat → Nat} {st : MS} {a1 : Int32} {a2 : Int32} {a3 : Int32} {z : Int32} (S : CallFix p m c cc nL s args lw_all own) (hl : lv_has ls nL lv) (hK : va_K D clA (tysG ct) s) (hH : GH D A (mAs h) H0 (WM ct h st) H locs) (hlk : Cond.methodLink own idx yX1_ringsAt ∈ lw_all) (hv : M_ringsAt st a1 a2 a3 = some z) (hR : 4 ≤ R.frames ∧ 98 ≤ R.locals) (hsum : (rest.map fun v => v.category).sum ≤ 8) (hdg : decode cc pc = .ok (.invokevirtual idx, 3)) (hf : cells ≤ R.cells ∧ slots ≤ R.slots)
    (k : W p l e R s m args below meth c H locs cells slots Q (F0 m (pc + 3) ls (.int z :: rest))) : W p l e R s m args below meth c H locs cells slots Q (F0 m pc ls (.int a3 :: .int a2 :: .int a1 :: .ref (h 0) :: rest)) :=
  r_calli (av := [.int a1, .int a2, .int a3]) S hl gE_0_ok trivial hK hH (met_M_ringsAt l D ct h H.size st a1 a2 a3 z hv) (lw_V hlk q1118 qs53 q70 q1119) rfl rfl ⟨rfl, by decide, by decide, by show (parseMethodDescriptor yX1_ringsAt.desc).map (fun d => d.parameters.length) = some 3; decide +kernel⟩ hR (m_recv hK hH) rfl hsum hdg hf k
end CR_M_ringsAt
/-! CapCouncilModel.ringsOf (I)I -/
def M_ringsOf (st : MS) (a1 : Int32) : Option Int32 :=
  (bs_ld (ma st 0) 84 ((72 : Int32) + a1)).bind fun v1 =>
  (bs_ld (ma st 0) 84 (71 : Int32)).bind fun v2 =>
  (bs_ld (ma st 0) 84 (70 : Int32)).bind fun v3 =>
  (M_ringsAt st v1 v2 v3).bind fun v4 =>
  some v4
def rm_M_ringsOf : Room := { frames := 4, cells := 0, slots := 0, locals := 98 }
set_option maxHeartbeats 4000000 in
set_option maxRecDepth 100000 in
theorem met_M_ringsOf (l : Launch) (D : va_G) (ct : Nat → ClassId) (h : Nat → Nat) (sz : Nat) (st : MS) (a1 : Int32) (z : Int32) (hd : M_ringsOf st a1 = some z) : Met l yX1_ringsOf (ws_ yX1_ringsOf cX1_ringsOf 2 (some .int)) rm_M_ringsOf (GPre gE_0 D ct (mAs h) (WM ct h st) sz [.ref (h 0), .int a1]) (vp_Si (fun r => r = z)) 0 0 (fun _ => False) := by
  refine g_met (cc := cX1_ringsOf) (maxL := 2) (ret := (some .int)) (by decide) (Nat.le_of_ble_eq_true rfl) ?_
  intro p e U m args below meth c ls S hr hlk hK hH hE hsz hl
  have S : CallFix p m c cX1_ringsOf 2 U args lw_all RX1 := S
  have hx := S.1
  have hb := S.2.1
  have hl : lv_has ls 2 [(0, .ref (h 0)), (1, .int a1)] := hl
  unfold M_ringsOf at hd
  refine lv_aload_n (pc := 0) hx hb dX1_ringsOf_0 rfl (lv_at hl 0 rfl) ?_
  refine lv_aload_n (pc := 1) hx hb dX1_ringsOf_1 rfl (lv_at hl 0 rfl) ?_
  refine mg_now (pc := 2) S hK hH dX1_ringsOf_2 ?_
  refine lv_bipush (v := (72 : Int32)) (pc := 5) hx hb dX1_ringsOf_5 (by decide) ?_
  refine lv_iload_n (pc := 7) hx hb dX1_ringsOf_7 rfl (lv_at hl 1 rfl) ?_
  refine lv_iadd (pc := 8) hx hb dX1_ringsOf_8 ?_
  obtain ⟨v1, hv1, hd⟩ := bs_bd hd
  refine ml_now (pc := 9) S hK hH hv1 dX1_ringsOf_9 ?_
  refine lv_aload_n (pc := 10) hx hb dX1_ringsOf_10 rfl (lv_at hl 0 rfl) ?_
  refine mg_now (pc := 11) S hK hH dX1_ringsOf_11 ?_
  refine lv_bipush (v := (71 : Int32)) (pc := 14) hx hb dX1_ringsOf_14 (by decide) ?_
  obtain ⟨v2, hv2, hd⟩ := bs_bd hd
  refine ml_now (pc := 16) S hK hH hv2 dX1_ringsOf_16 ?_
  refine lv_aload_n (pc := 17) hx hb dX1_ringsOf_17 rfl (lv_at hl 0 rfl) ?_
  refine mg_now (pc := 18) S hK hH dX1_ringsOf_18 ?_
  refine lv_bipush (v := (70 : Int32)) (pc := 21) hx hb dX1_ringsOf_21 (by decide) ?_
  obtain ⟨v3, hv3, hd⟩ := bs_bd hd
  refine ml_now (pc := 23) S hK hH hv3 dX1_ringsOf_23 ?_
  obtain ⟨v4, hv4, hd⟩ := bs_bd hd
  refine call_M_ringsAt (pc := 24) S hl hK hH q1116 hv4 ⟨Nat.le_of_ble_eq_true rfl, Nat.le_of_ble_eq_true rfl⟩ (Nat.le_of_ble_eq_true rfl) dX1_ringsOf_24 ⟨Nat.zero_le _, Nat.zero_le _⟩ ?_
  exact r_iret hd S hr hlk dX1_ringsOf_27
section CR_M_ringsOf
variable {p : Program} {l : Launch} {e : Env} {R : Room} {s : State} {m : MethodId} {args : Array Value} {below : List Frame} {meth : Method} {c : Code} {H : Heap} {locs : List Loc} {cells slots : Nat} {Q : State → Prop}
variable {cc : ByteArray} {pc nL idx : Nat} {ls : Array Slot} {rest : List Value} {lv : List (Nat × Value)} {A : Nat → Prop} {H0 : Heap} {own : String}
theorem call_M_ringsOf {D : va_G} {ct : Nat → ClassId} {h : Nat → Nat} {st : MS} {a1 : Int32} {z : Int32} (S : CallFix p m c cc nL s args lw_all own) (hl : lv_has ls nL lv) (hK : va_K D clA (tysG ct) s) (hH : GH D A (mAs h) H0 (WM ct h st) H locs) (hlk : Cond.methodLink own idx yX1_ringsOf ∈ lw_all) (hv : M_ringsOf st a1 = some z) (hR : 5 ≤ R.frames ∧ 119 ≤ R.locals) (hsum : (rest.map fun v => v.category).sum ≤ 8) (hdg : decode cc pc = .ok (.invokevirtual idx, 3)) (hf : cells ≤ R.cells ∧ slots ≤ R.slots)
    (k : W p l e R s m args below meth c H locs cells slots Q (F0 m (pc + 3) ls (.int z :: rest))) : W p l e R s m args below meth c H locs cells slots Q (F0 m pc ls (.int a1 :: .ref (h 0) :: rest)) :=
  r_calli (av := [.int a1]) S hl gE_0_ok trivial hK hH (met_M_ringsOf l D ct h H.size st a1 z hv) (lw_V hlk q1114 qs52 q70 q1115) rfl rfl ⟨rfl, by decide, by decide, by show (parseMethodDescriptor yX1_ringsOf.desc).map (fun d => d.parameters.length) = some 1; decide +kernel⟩ hR (m_recv hK hH) rfl hsum hdg hf k
end CR_M_ringsOf
/-! CapCouncilModel.toldOfBed (II)I -/
def M_toldOfBed (st : MS) (a1 : Int32) (a2 : Int32) : Option Int32 :=
  if a2 = 0 then
    ((bs_ld (ma st 0) 84 ((72 : Int32) + a1)).bind fun v5 =>
    some v5)
  else
    (if a2 = (1 : Int32) then
      ((bs_ld (ma st 0) 84 ((78 : Int32) + a1)).bind fun v4 =>
      some v4)
    else
      ((M_ringsOf st a1).bind fun v3 =>
      some v3))
def rm_M_toldOfBed : Room := { frames := 5, cells := 0, slots := 0, locals := 119 }
set_option maxHeartbeats 4000000 in
set_option maxRecDepth 100000 in
theorem met_M_toldOfBed (l : Launch) (D : va_G) (ct : Nat → ClassId) (h : Nat → Nat) (sz : Nat) (st : MS) (a1 : Int32) (a2 : Int32) (z : Int32) (hd : M_toldOfBed st a1 a2 = some z) : Met l yX1_toldOfBed (ws_ yX1_toldOfBed cX1_toldOfBed 3 (some .int)) rm_M_toldOfBed (GPre gE_0 D ct (mAs h) (WM ct h st) sz [.ref (h 0), .int a1, .int a2]) (vp_Si (fun r => r = z)) 0 0 (fun _ => False) := by
  refine g_met (cc := cX1_toldOfBed) (maxL := 3) (ret := (some .int)) (by decide) (Nat.le_of_ble_eq_true rfl) ?_
  intro p e U m args below meth c ls S hr hlk hK hH hE hsz hl
  have S : CallFix p m c cX1_toldOfBed 3 U args lw_all RX1 := S
  have hx := S.1
  have hb := S.2.1
  have hl : lv_has ls 3 [(0, .ref (h 0)), (1, .int a1), (2, .int a2)] := hl
  unfold M_toldOfBed at hd
  refine lv_iload_n (pc := 0) hx hb dX1_toldOfBed_0 rfl (lv_at hl 2 rfl) ?_
  refine lv_if_ne (pc := 1) (tgt := 16) hx hb dX1_toldOfBed_1 (by decide) (fun c1 => ?_) (fun c1 => ?_)
  · have hd := if_n c1 hd
    refine lv_iload_n (pc := 16) hx hb dX1_toldOfBed_16 rfl (lv_at hl 2 rfl) ?_
    refine lv_iconst (v := (1 : Int32)) (pc := 17) hx hb dX1_toldOfBed_17 (by decide) ?_
    refine lv_icmp_ne (pc := 18) (tgt := 33) hx hb dX1_toldOfBed_18 (by decide) (fun c2 => ?_) (fun c2 => ?_)
    · have hd := if_n c2 hd
      refine lv_aload_n (pc := 33) hx hb dX1_toldOfBed_33 rfl (lv_at hl 0 rfl) ?_
      refine lv_iload_n (pc := 34) hx hb dX1_toldOfBed_34 rfl (lv_at hl 1 rfl) ?_
      obtain ⟨v3, hv3, hd⟩ := bs_bd hd
      refine call_M_ringsOf (pc := 35) S hl hK hH q1112 hv3 ⟨Nat.le_of_ble_eq_true rfl, Nat.le_of_ble_eq_true rfl⟩ (Nat.le_of_ble_eq_true rfl) dX1_toldOfBed_35 ⟨Nat.zero_le _, Nat.zero_le _⟩ ?_
      exact r_iret hd S hr hlk dX1_toldOfBed_38
    · have hd := if_t c2 hd
      refine lv_aload_n (pc := 21) hx hb dX1_toldOfBed_21 rfl (lv_at hl 0 rfl) ?_
      refine mg_now (pc := 22) S hK hH dX1_toldOfBed_22 ?_
      refine lv_bipush (v := (78 : Int32)) (pc := 25) hx hb dX1_toldOfBed_25 (by decide) ?_
      refine lv_iload_n (pc := 27) hx hb dX1_toldOfBed_27 rfl (lv_at hl 1 rfl) ?_
      refine lv_iadd (pc := 28) hx hb dX1_toldOfBed_28 ?_
      obtain ⟨v4, hv4, hd⟩ := bs_bd hd
      refine ml_now (pc := 29) S hK hH hv4 dX1_toldOfBed_29 ?_
      refine lv_goto (pc := 30) (tgt := 38) hx hb dX1_toldOfBed_30 (by decide) ?_
      exact r_iret hd S hr hlk dX1_toldOfBed_38
  · have hd := if_t c1 hd
    refine lv_aload_n (pc := 4) hx hb dX1_toldOfBed_4 rfl (lv_at hl 0 rfl) ?_
    refine mg_now (pc := 5) S hK hH dX1_toldOfBed_5 ?_
    refine lv_bipush (v := (72 : Int32)) (pc := 8) hx hb dX1_toldOfBed_8 (by decide) ?_
    refine lv_iload_n (pc := 10) hx hb dX1_toldOfBed_10 rfl (lv_at hl 1 rfl) ?_
    refine lv_iadd (pc := 11) hx hb dX1_toldOfBed_11 ?_
    obtain ⟨v5, hv5, hd⟩ := bs_bd hd
    refine ml_now (pc := 12) S hK hH hv5 dX1_toldOfBed_12 ?_
    refine lv_goto (pc := 13) (tgt := 38) hx hb dX1_toldOfBed_13 (by decide) ?_
    exact r_iret hd S hr hlk dX1_toldOfBed_38
section CR_M_toldOfBed
variable {p : Program} {l : Launch} {e : Env} {R : Room} {s : State} {m : MethodId} {args : Array Value} {below : List Frame} {meth : Method} {c : Code} {H : Heap} {locs : List Loc} {cells slots : Nat} {Q : State → Prop}
variable {cc : ByteArray} {pc nL idx : Nat} {ls : Array Slot} {rest : List Value} {lv : List (Nat × Value)} {A : Nat → Prop} {H0 : Heap} {own : String}
theorem call_M_toldOfBed {D : va_G} {ct : Nat → ClassId} {h : Nat → Nat} {st : MS} {a1 : Int32} {a2 : Int32} {z : Int32} (S : CallFix p m c cc nL s args lw_all own) (hl : lv_has ls nL lv) (hK : va_K D clA (tysG ct) s) (hH : GH D A (mAs h) H0 (WM ct h st) H locs) (hlk : Cond.methodLink own idx yX1_toldOfBed ∈ lw_all) (hv : M_toldOfBed st a1 a2 = some z) (hR : 6 ≤ R.frames ∧ 141 ≤ R.locals) (hsum : (rest.map fun v => v.category).sum ≤ 8) (hdg : decode cc pc = .ok (.invokevirtual idx, 3)) (hf : cells ≤ R.cells ∧ slots ≤ R.slots)
    (k : W p l e R s m args below meth c H locs cells slots Q (F0 m (pc + 3) ls (.int z :: rest))) : W p l e R s m args below meth c H locs cells slots Q (F0 m pc ls (.int a2 :: .int a1 :: .ref (h 0) :: rest)) :=
  r_calli (av := [.int a1, .int a2]) S hl gE_0_ok trivial hK hH (met_M_toldOfBed l D ct h H.size st a1 a2 z hv) (lw_V hlk q1110 qs51 q70 q1111) rfl rfl ⟨rfl, by decide, by decide, by show (parseMethodDescriptor yX1_toldOfBed.desc).map (fun d => d.parameters.length) = some 2; decide +kernel⟩ hR (m_recv hK hH) rfl hsum hdg hf k
end CR_M_toldOfBed
/-! CapCouncilModel.bed (II)I -/
def M_bed (st : MS) (a1 : Int32) (a2 : Int32) : Option (MS × Int32) :=
  (M_isBed st a1).bind fun v1 =>
  if v1 = 0 then
    (some (st, (-1 : Int32)))
  else
    ((M_in (a2.toInt64) (0 : Int64) (2 : Int64)).bind fun v3 =>
    if v3 = 0 then
      (some (st, (-1 : Int32)))
    else
      ((M_toldOfBed st a1 a2).bind fun v5 =>
      (M_asks st v5).bind fun q6 =>
      some (q6.1, q6.2)))
def rm_M_bed : Room := { frames := 6, cells := 0, slots := 0, locals := 141 }
set_option maxHeartbeats 4000000 in
set_option maxRecDepth 100000 in
theorem met_M_bed (l : Launch) (D : va_G) (ct : Nat → ClassId) (h : Nat → Nat) (sz : Nat) (st : MS) (a1 : Int32) (a2 : Int32) (z : (MS × Int32)) (hd : M_bed st a1 a2 = some z) : Met l yX1_bed (ws_ yX1_bed cX1_bed 3 (some .int)) rm_M_bed (GPre gE_0 D ct (mAs h) (WM ct h st) sz [.ref (h 0), .int a1, .int a2]) (GQi D (mAs h) (mAs h) (WM ct h z.1) sz z.2) 0 0 (gA (mAs h) sz) := by
  refine g_met (cc := cX1_bed) (maxL := 3) (ret := (some .int)) (by decide) (Nat.le_of_ble_eq_true rfl) ?_
  intro p e U m args below meth c ls S hr hlk hK hH hE hsz hl
  have S : CallFix p m c cX1_bed 3 U args lw_all RX1 := S
  have hx := S.1
  have hb := S.2.1
  have hl : lv_has ls 3 [(0, .ref (h 0)), (1, .int a1), (2, .int a2)] := hl
  unfold M_bed at hd
  refine lv_aload_n (pc := 0) hx hb dX1_bed_0 rfl (lv_at hl 0 rfl) ?_
  refine lv_iload_n (pc := 1) hx hb dX1_bed_1 rfl (lv_at hl 1 rfl) ?_
  obtain ⟨v1, hv1, hd⟩ := bs_bd hd
  refine call_M_isBed (pc := 2) S hl hK hH q1103 hv1 ⟨Nat.le_of_ble_eq_true rfl, Nat.le_of_ble_eq_true rfl⟩ (Nat.le_of_ble_eq_true rfl) dX1_bed_2 ⟨Nat.zero_le _, Nat.zero_le _⟩ ?_
  refine lv_if_eq (pc := 5) (tgt := 33) hx hb dX1_bed_5 (by decide) (fun c2 => ?_) (fun c2 => ?_)
  · have hd := if_t c2 hd
    refine lv_iconst (v := (-1 : Int32)) (pc := 33) hx hb dX1_bed_33 (by decide) ?_
    exact g_iret (WM ct h) hd S hr hlk hH dX1_bed_34
  · have hd := if_n c2 hd
    refine lv_iload_n (pc := 8) hx hb dX1_bed_8 rfl (lv_at hl 2 rfl) ?_
    refine lv_i2l (pc := 9) hx hb dX1_bed_9 rfl ?_
    refine lv_lconst (v := (0 : Int64)) (pc := 10) hx hb dX1_bed_10 (by decide) ?_
    refine lv_ldc2 (pc := 11) (own := RX1) (v := (2 : Int64)) hx hb S.2.2.2.1 (S.2.2.2.2 _ q1107) dX1_bed_11 ?_
    obtain ⟨v3, hv3, hd⟩ := bs_bd hd
    refine call_M_in (pc := 14) S hl q974 hv3 ⟨Nat.le_of_ble_eq_true rfl, Nat.le_of_ble_eq_true rfl⟩ (Nat.le_of_ble_eq_true rfl) dX1_bed_14 ⟨Nat.zero_le _, Nat.zero_le _⟩ ?_
    refine lv_if_eq (pc := 17) (tgt := 33) hx hb dX1_bed_17 (by decide) (fun c4 => ?_) (fun c4 => ?_)
    · have hd := if_t c4 hd
      refine lv_iconst (v := (-1 : Int32)) (pc := 33) hx hb dX1_bed_33 (by decide) ?_
      exact g_iret (WM ct h) hd S hr hlk hH dX1_bed_34
    · have hd := if_n c4 hd
      refine lv_aload_n (pc := 20) hx hb dX1_bed_20 rfl (lv_at hl 0 rfl) ?_
      refine lv_aload_n (pc := 21) hx hb dX1_bed_21 rfl (lv_at hl 0 rfl) ?_
      refine lv_iload_n (pc := 22) hx hb dX1_bed_22 rfl (lv_at hl 1 rfl) ?_
      refine lv_iload_n (pc := 23) hx hb dX1_bed_23 rfl (lv_at hl 2 rfl) ?_
      obtain ⟨v5, hv5, hd⟩ := bs_bd hd
      refine call_M_toldOfBed (pc := 24) S hl hK hH q1108 hv5 ⟨Nat.le_of_ble_eq_true rfl, Nat.le_of_ble_eq_true rfl⟩ (Nat.le_of_ble_eq_true rfl) dX1_bed_24 ⟨Nat.zero_le _, Nat.zero_le _⟩ ?_
      obtain ⟨q6, hq6, hd⟩ := bs_bd hd
      refine call_M_asks (pc := 27) S hl hK hH q989 hq6 ⟨Nat.le_of_ble_eq_true rfl, Nat.le_of_ble_eq_true rfl⟩ (Nat.le_of_ble_eq_true rfl) dX1_bed_27 ⟨Nat.zero_le _, Nat.zero_le _⟩ (fun H locs hH => ?_)
      refine lv_goto (pc := 30) (tgt := 34) hx hb dX1_bed_30 (by decide) ?_
      exact g_iret (WM ct h) hd S hr hlk hH dX1_bed_34
section CR_M_bed
variable {p : Program} {l : Launch} {e : Env} {R : Room} {s : State} {m : MethodId} {args : Array Value} {below : List Frame} {meth : Method} {c : Code} {H : Heap} {locs : List Loc} {cells slots : Nat} {Q : State → Prop}
variable {cc : ByteArray} {pc nL idx : Nat} {ls : Array Slot} {rest : List Value} {lv : List (Nat × Value)} {A : Nat → Prop} {H0 : Heap} {own : String}
theorem call_M_bed {D : va_G} {ct : Nat → ClassId} {h : Nat → Nat} {st : MS} {a1 : Int32} {a2 : Int32} {z : (MS × Int32)} (S : CallFix p m c cc nL s args lw_all own) (hl : lv_has ls nL lv) (hK : va_K D clA (tysG ct) s) (hH : GH D A (mAs h) H0 (WM ct h st) H locs) (hlk : Cond.methodLink own idx yX1_bed ∈ lw_all) (hv : M_bed st a1 a2 = some z) (hR : 7 ≤ R.frames ∧ 163 ≤ R.locals) (hsum : (rest.map fun v => v.category).sum ≤ 8) (hdg : decode cc pc = .ok (.invokevirtual idx, 3)) (hf : cells ≤ R.cells ∧ slots ≤ R.slots)
    (k : ∀ (H1 : Heap) (locs1 : List Loc), GH D A (mAs h) H0 (WM ct h z.1) H1 locs1 → W p l e R s m args below meth c H1 locs1 cells slots Q (F0 m (pc + 3) ls (.int z.2 :: rest))) : W p l e R s m args below meth c H locs cells slots Q (F0 m pc ls (.int a2 :: .int a1 :: .ref (h 0) :: rest)) :=
  g_calli (av := [.int a1, .int a2]) S hl gE_0_ok trivial hK hH (met_M_bed l D ct h H.size st a1 a2 z hv) (lw_V hlk q1100 q1101 q70 q1102) rfl rfl ⟨rfl, by decide, by decide, by show (parseMethodDescriptor yX1_bed.desc).map (fun d => d.parameters.length) = some 2; decide +kernel⟩ hR (m_recv hK hH) (fun _ h => Or.inl h) rfl hsum hdg hf k
end CR_M_bed
/-! CapCouncilModel.isOf (II)Z -/
def M_isOf_J15 (a0 : Int32) (a1 : Int32) : Option Int32 :=
  if a1 = (2 : Int32) then
    (if a0 = (5 : Int32) then
      (some (1 : Int32))
    else
      (some (0 : Int32)))
  else
    (some (0 : Int32))
def M_isOf (a0 : Int32) (a1 : Int32) : Option Int32 :=
  if a0 = a1 then
    (some (1 : Int32))
  else
    (if a1 = (1 : Int32) then
      (if a0 = (4 : Int32) then
        (some (1 : Int32))
      else
        (M_isOf_J15 a0 a1))
    else
      (M_isOf_J15 a0 a1))
def rm_M_isOf : Room := { frames := 0, cells := 0, slots := 0, locals := 0 }
set_option maxHeartbeats 4000000 in
set_option maxRecDepth 100000 in
theorem met_M_isOf (l : Launch) (a0 : Int32) (a1 : Int32) (z : Int32) (hd : M_isOf a0 a1 = some z) : Met l yX1_isOf (ws_ yX1_isOf cX1_isOf 2 (some .boolean)) rm_M_isOf (va_Pc [.int a0, .int a1] (fun _ => True)) (vp_Si (fun r => r = z)) 0 0 (fun _ => False) := by
  refine p_met (cc := cX1_isOf) (maxL := 2) (ret := (some .boolean)) (by decide) (Nat.le_of_ble_eq_true rfl) ?_
  intro p e U m args below meth c ls S hr hlk hl
  have S : CallFix p m c cX1_isOf 2 U args lw_all RX1 := S
  have hx := S.1
  have hb := S.2.1
  have hl : lv_has ls 2 [(0, .int a0), (1, .int a1)] := hl
  have h15 : ∀ (ls : Array Slot), lv_has ls 2 [(0, .int a0), (1, .int a1)] → M_isOf_J15 a0 a1 = some z → W p l e rm_M_isOf U m args below meth c U.heap [] 0 0 (MQ below (vp_Si (fun r => r = z)) args U 0 0 (fun _ => False)) (F0 m 15 ls []) := by
    intro ls hl hd
    unfold M_isOf_J15 at hd
    refine lv_iload_n (pc := 15) hx hb dX1_isOf_15 rfl (lv_at hl 1 rfl) ?_
    refine lv_iconst (v := (2 : Int32)) (pc := 16) hx hb dX1_isOf_16 (by decide) ?_
    refine lv_icmp_ne (pc := 17) (tgt := 29) hx hb dX1_isOf_17 (by decide) (fun c4 => ?_) (fun c4 => ?_)
    · have hd := if_n c4 hd
      refine lv_iconst (v := (0 : Int32)) (pc := 29) hx hb dX1_isOf_29 (by decide) ?_
      exact r_zret rfl hd S hr hlk dX1_isOf_30
    · have hd := if_t c4 hd
      refine lv_iload_n (pc := 20) hx hb dX1_isOf_20 rfl (lv_at hl 0 rfl) ?_
      refine lv_iconst (v := (5 : Int32)) (pc := 21) hx hb dX1_isOf_21 (by decide) ?_
      refine lv_icmp_ne (pc := 22) (tgt := 29) hx hb dX1_isOf_22 (by decide) (fun c5 => ?_) (fun c5 => ?_)
      · have hd := if_n c5 hd
        refine lv_iconst (v := (0 : Int32)) (pc := 29) hx hb dX1_isOf_29 (by decide) ?_
        exact r_zret rfl hd S hr hlk dX1_isOf_30
      · have hd := if_t c5 hd
        refine lv_iconst (v := (1 : Int32)) (pc := 25) hx hb dX1_isOf_25 (by decide) ?_
        refine lv_goto (pc := 26) (tgt := 30) hx hb dX1_isOf_26 (by decide) ?_
        exact r_zret rfl hd S hr hlk dX1_isOf_30
  unfold M_isOf at hd
  refine lv_iload_n (pc := 0) hx hb dX1_isOf_0 rfl (lv_at hl 0 rfl) ?_
  refine lv_iload_n (pc := 1) hx hb dX1_isOf_1 rfl (lv_at hl 1 rfl) ?_
  refine lv_icmp_eq (pc := 2) (tgt := 25) hx hb dX1_isOf_2 (by decide) (fun c1 => ?_) (fun c1 => ?_)
  · have hd := if_t c1 hd
    refine lv_iconst (v := (1 : Int32)) (pc := 25) hx hb dX1_isOf_25 (by decide) ?_
    refine lv_goto (pc := 26) (tgt := 30) hx hb dX1_isOf_26 (by decide) ?_
    exact r_zret rfl hd S hr hlk dX1_isOf_30
  · have hd := if_n c1 hd
    refine lv_iload_n (pc := 5) hx hb dX1_isOf_5 rfl (lv_at hl 1 rfl) ?_
    refine lv_iconst (v := (1 : Int32)) (pc := 6) hx hb dX1_isOf_6 (by decide) ?_
    refine lv_icmp_ne (pc := 7) (tgt := 15) hx hb dX1_isOf_7 (by decide) (fun c2 => ?_) (fun c2 => ?_)
    · have hd := if_n c2 hd
      exact h15 _ (lv_sub hl [0, 1] rfl) hd
    · have hd := if_t c2 hd
      refine lv_iload_n (pc := 10) hx hb dX1_isOf_10 rfl (lv_at hl 0 rfl) ?_
      refine lv_iconst (v := (4 : Int32)) (pc := 11) hx hb dX1_isOf_11 (by decide) ?_
      refine lv_icmp_eq (pc := 12) (tgt := 25) hx hb dX1_isOf_12 (by decide) (fun c3 => ?_) (fun c3 => ?_)
      · have hd := if_t c3 hd
        refine lv_iconst (v := (1 : Int32)) (pc := 25) hx hb dX1_isOf_25 (by decide) ?_
        refine lv_goto (pc := 26) (tgt := 30) hx hb dX1_isOf_26 (by decide) ?_
        exact r_zret rfl hd S hr hlk dX1_isOf_30
      · have hd := if_n c3 hd
        exact h15 _ (lv_sub hl [0, 1] rfl) hd
section CR_M_isOf
variable {p : Program} {l : Launch} {e : Env} {R : Room} {s : State} {m : MethodId} {args : Array Value} {below : List Frame} {meth : Method} {c : Code} {H : Heap} {locs : List Loc} {cells slots : Nat} {Q : State → Prop}
variable {cc : ByteArray} {pc nL idx : Nat} {ls : Array Slot} {rest : List Value} {lv : List (Nat × Value)} {A : Nat → Prop} {H0 : Heap} {own : String}
theorem call_M_isOf {a0 : Int32} {a1 : Int32} {z : Int32} (S : CallFix p m c cc nL s args lw_all own) (hl : lv_has ls nL lv) (hlk : Cond.methodLink own idx yX1_isOf ∈ lw_all) (hv : M_isOf a0 a1 = some z) (hR : 1 ≤ R.frames ∧ 21 ≤ R.locals) (hsum : (rest.map fun v => v.category).sum ≤ 8) (hdg : decode cc pc = .ok (.invokestatic idx, 3)) (hf : cells ≤ R.cells ∧ slots ≤ R.slots)
    (k : W p l e R s m args below meth c H locs cells slots Q (F0 m (pc + 3) ls (.int z :: rest))) : W p l e R s m args below meth c H locs cells slots Q (F0 m pc ls (.int a1 :: .int a0 :: rest)) :=
  p_calli (av := [.int a0, .int a1]) S hl (met_M_isOf l a0 a1 z hv) (lw_S hlk q1125 q70 q1126) rfl rfl ⟨by decide, by decide, by show (parseMethodDescriptor yX1_isOf.desc).map (fun d => d.parameters.length) = some 2; decide +kernel⟩ hR rfl hsum hdg hf k
end CR_M_isOf
/-! CapCouncilModel.manyBut (III)I -/
def M_manyBut_L6 (st : MS) (a1 : Int32) (a2 : Int32) (a3 : Int32) : Nat → Int32 → Int32 → Option Int32
  | 0, _, _ => none
  | n + 1, x4, x5 =>
    if (100 : Int32) ≤ x5 then
      (some x4)
    else
      ((bs_ld (ma st 0) 84 ((7 : Int32) + a1)).bind fun v2 =>
      (bs_ld (ma st 0) 84 ((12 : Int32) + a1)).bind fun v3 =>
      (bs_ld (ma st 0) 84 (70 : Int32)).bind fun v4 =>
      (M_isWithin a2 v2 v3 v4 x5).bind fun v5 =>
      if v5 = 0 then
        (bs_let (x4 + (0 : Int32)) fun w7 =>
        bs_let (x5 + (1 : Int32)) fun w8 =>
        M_manyBut_L6 st a1 a2 a3 n w7 w8)
      else
        ((bs_ld (ma st 0) 84 ((7 : Int32) + a1)).bind fun v9 =>
        (bs_ld (ma st 0) 84 ((12 : Int32) + a1)).bind fun v10 =>
        (bs_ld (ma st 0) 84 (70 : Int32)).bind fun v11 =>
        (M_isWithin a3 v9 v10 v11 x5).bind fun v12 =>
        if v12 = 0 then
          (bs_let (x4 + (1 : Int32)) fun w16 =>
          bs_let (x5 + (1 : Int32)) fun w17 =>
          M_manyBut_L6 st a1 a2 a3 n w16 w17)
        else
          (bs_let (x4 + (0 : Int32)) fun w14 =>
          bs_let (x5 + (1 : Int32)) fun w15 =>
          M_manyBut_L6 st a1 a2 a3 n w14 w15)))
def M_manyBut (st : MS) (a1 : Int32) (a2 : Int32) (a3 : Int32) : Option Int32 :=
  M_manyBut_L6 st a1 a2 a3 bs_fu (0 : Int32) (0 : Int32)
def rm_M_manyBut : Room := { frames := 2, cells := 0, slots := 0, locals := 50 }
set_option maxHeartbeats 4000000 in
set_option maxRecDepth 100000 in
theorem met_M_manyBut (l : Launch) (D : va_G) (ct : Nat → ClassId) (h : Nat → Nat) (sz : Nat) (st : MS) (a1 : Int32) (a2 : Int32) (a3 : Int32) (z : Int32) (hd : M_manyBut st a1 a2 a3 = some z) : Met l yX1_manyBut (ws_ yX1_manyBut cX1_manyBut 6 (some .int)) rm_M_manyBut (GPre gE_0 D ct (mAs h) (WM ct h st) sz [.ref (h 0), .int a1, .int a2, .int a3]) (vp_Si (fun r => r = z)) 0 0 (fun _ => False) := by
  refine g_met (cc := cX1_manyBut) (maxL := 6) (ret := (some .int)) (by decide) (Nat.le_of_ble_eq_true rfl) ?_
  intro p e U m args below meth c ls S hr hlk hK hH hE hsz hl
  have S : CallFix p m c cX1_manyBut 6 U args lw_all RX1 := S
  have hx := S.1
  have hb := S.2.1
  have hl : lv_has ls 6 [(0, .ref (h 0)), (1, .int a1), (2, .int a2), (3, .int a3)] := hl
  have h6 : ∀ (n6 : Nat) (x4 : Int32) (x5 : Int32) (ls : Array Slot), lv_has ls 6 [(0, .ref (h 0)), (1, .int a1), (2, .int a2), (3, .int a3), (4, .int x4), (5, .int x5)] → M_manyBut_L6 st a1 a2 a3 n6 x4 x5 = some z → W p l e rm_M_manyBut U m args below meth c U.heap [] 0 0 (MQ below (vp_Si (fun r => r = z)) args U 0 0 (fun _ => False)) (F0 m 6 ls []) := by
    intro n6
    induction n6 with
    | zero =>
      intro x4 x5 ls hl hd
      rw [M_manyBut_L6] at hd
      cases hd
    | succ n6 ih6 =>
      intro x4 x5 ls hl hd
      rw [M_manyBut_L6] at hd
      refine lv_iload (pc := 6) hx hb dX1_manyBut_6 (lv_at hl 5 rfl) ?_
      refine lv_bipush (v := (100 : Int32)) (pc := 8) hx hb dX1_manyBut_8 (by decide) ?_
      refine lv_icmp_ge (pc := 10) (tgt := 97) hx hb dX1_manyBut_10 (by decide) (fun c1 => ?_) (fun c1 => ?_)
      · have hd := if_t c1 hd
        refine lv_iload (pc := 97) hx hb dX1_manyBut_97 (lv_at hl 4 rfl) ?_
        exact r_iret hd S hr hlk dX1_manyBut_99
      · have hd := if_n c1 hd
        refine lv_iload (pc := 13) hx hb dX1_manyBut_13 (lv_at hl 4 rfl) ?_
        refine lv_iload_n (pc := 15) hx hb dX1_manyBut_15 rfl (lv_at hl 2 rfl) ?_
        refine lv_aload_n (pc := 16) hx hb dX1_manyBut_16 rfl (lv_at hl 0 rfl) ?_
        refine mg_now (pc := 17) S hK hH dX1_manyBut_17 ?_
        refine lv_bipush (v := (7 : Int32)) (pc := 20) hx hb dX1_manyBut_20 (by decide) ?_
        refine lv_iload_n (pc := 22) hx hb dX1_manyBut_22 rfl (lv_at hl 1 rfl) ?_
        refine lv_iadd (pc := 23) hx hb dX1_manyBut_23 ?_
        obtain ⟨v2, hv2, hd⟩ := bs_bd hd
        refine ml_now (pc := 24) S hK hH hv2 dX1_manyBut_24 ?_
        refine lv_aload_n (pc := 25) hx hb dX1_manyBut_25 rfl (lv_at hl 0 rfl) ?_
        refine mg_now (pc := 26) S hK hH dX1_manyBut_26 ?_
        refine lv_bipush (v := (12 : Int32)) (pc := 29) hx hb dX1_manyBut_29 (by decide) ?_
        refine lv_iload_n (pc := 31) hx hb dX1_manyBut_31 rfl (lv_at hl 1 rfl) ?_
        refine lv_iadd (pc := 32) hx hb dX1_manyBut_32 ?_
        obtain ⟨v3, hv3, hd⟩ := bs_bd hd
        refine ml_now (pc := 33) S hK hH hv3 dX1_manyBut_33 ?_
        refine lv_aload_n (pc := 34) hx hb dX1_manyBut_34 rfl (lv_at hl 0 rfl) ?_
        refine mg_now (pc := 35) S hK hH dX1_manyBut_35 ?_
        refine lv_bipush (v := (70 : Int32)) (pc := 38) hx hb dX1_manyBut_38 (by decide) ?_
        obtain ⟨v4, hv4, hd⟩ := bs_bd hd
        refine ml_now (pc := 40) S hK hH hv4 dX1_manyBut_40 ?_
        refine lv_iload (pc := 41) hx hb dX1_manyBut_41 (lv_at hl 5 rfl) ?_
        obtain ⟨v5, hv5, hd⟩ := bs_bd hd
        refine call_M_isWithin (pc := 43) S hl q1089 hv5 ⟨Nat.le_of_ble_eq_true rfl, Nat.le_of_ble_eq_true rfl⟩ (Nat.le_of_ble_eq_true rfl) dX1_manyBut_43 ⟨Nat.zero_le _, Nat.zero_le _⟩ ?_
        refine lv_if_eq (pc := 46) (tgt := 87) hx hb dX1_manyBut_46 (by decide) (fun c6 => ?_) (fun c6 => ?_)
        · have hd := if_t c6 hd
          refine lv_iconst (v := (0 : Int32)) (pc := 87) hx hb dX1_manyBut_87 (by decide) ?_
          refine lv_iadd (pc := 88) hx hb dX1_manyBut_88 ?_
          obtain ⟨w7, ew7, hd⟩ := bs_let_spec hd
          refine lv_topE (pc := 89) ew7 ?_
          refine lv_istore (pc := 89) (lv' := [(4, .int w7), (0, .ref (h 0)), (1, .int a1), (2, .int a2), (3, .int a3), (5, .int x5)]) hx hb dX1_manyBut_89 hl (by decide) rfl (fun ls hl => ?_)
          obtain ⟨w8, ew8, hd⟩ := bs_let_spec hd
          refine lv_iinc (pc := 91) (v := w8) (lv' := [(5, .int w8), (4, .int w7), (0, .ref (h 0)), (1, .int a1), (2, .int a2), (3, .int a3)]) hx hb dX1_manyBut_91 hl (k := 5) rfl (by rw [ew8]; rfl) (by decide) rfl (fun ls hl => ?_)
          refine lv_goto (pc := 94) (tgt := 6) hx hb dX1_manyBut_94 (by decide) ?_
          exact ih6 w7 w8 _ (lv_sub hl [2, 3, 4, 5, 1, 0] rfl) hd
        · have hd := if_n c6 hd
          refine lv_iload_n (pc := 49) hx hb dX1_manyBut_49 rfl (lv_at hl 3 rfl) ?_
          refine lv_aload_n (pc := 50) hx hb dX1_manyBut_50 rfl (lv_at hl 0 rfl) ?_
          refine mg_now (pc := 51) S hK hH dX1_manyBut_51 ?_
          refine lv_bipush (v := (7 : Int32)) (pc := 54) hx hb dX1_manyBut_54 (by decide) ?_
          refine lv_iload_n (pc := 56) hx hb dX1_manyBut_56 rfl (lv_at hl 1 rfl) ?_
          refine lv_iadd (pc := 57) hx hb dX1_manyBut_57 ?_
          obtain ⟨v9, hv9, hd⟩ := bs_bd hd
          refine ml_now (pc := 58) S hK hH hv9 dX1_manyBut_58 ?_
          refine lv_aload_n (pc := 59) hx hb dX1_manyBut_59 rfl (lv_at hl 0 rfl) ?_
          refine mg_now (pc := 60) S hK hH dX1_manyBut_60 ?_
          refine lv_bipush (v := (12 : Int32)) (pc := 63) hx hb dX1_manyBut_63 (by decide) ?_
          refine lv_iload_n (pc := 65) hx hb dX1_manyBut_65 rfl (lv_at hl 1 rfl) ?_
          refine lv_iadd (pc := 66) hx hb dX1_manyBut_66 ?_
          obtain ⟨v10, hv10, hd⟩ := bs_bd hd
          refine ml_now (pc := 67) S hK hH hv10 dX1_manyBut_67 ?_
          refine lv_aload_n (pc := 68) hx hb dX1_manyBut_68 rfl (lv_at hl 0 rfl) ?_
          refine mg_now (pc := 69) S hK hH dX1_manyBut_69 ?_
          refine lv_bipush (v := (70 : Int32)) (pc := 72) hx hb dX1_manyBut_72 (by decide) ?_
          obtain ⟨v11, hv11, hd⟩ := bs_bd hd
          refine ml_now (pc := 74) S hK hH hv11 dX1_manyBut_74 ?_
          refine lv_iload (pc := 75) hx hb dX1_manyBut_75 (lv_at hl 5 rfl) ?_
          obtain ⟨v12, hv12, hd⟩ := bs_bd hd
          refine call_M_isWithin (pc := 77) S hl q1089 hv12 ⟨Nat.le_of_ble_eq_true rfl, Nat.le_of_ble_eq_true rfl⟩ (Nat.le_of_ble_eq_true rfl) dX1_manyBut_77 ⟨Nat.zero_le _, Nat.zero_le _⟩ ?_
          refine lv_if_ne (pc := 80) (tgt := 87) hx hb dX1_manyBut_80 (by decide) (fun c13 => ?_) (fun c13 => ?_)
          · have hd := if_n c13 hd
            refine lv_iconst (v := (0 : Int32)) (pc := 87) hx hb dX1_manyBut_87 (by decide) ?_
            refine lv_iadd (pc := 88) hx hb dX1_manyBut_88 ?_
            obtain ⟨w14, ew14, hd⟩ := bs_let_spec hd
            refine lv_topE (pc := 89) ew14 ?_
            refine lv_istore (pc := 89) (lv' := [(4, .int w14), (0, .ref (h 0)), (1, .int a1), (2, .int a2), (3, .int a3), (5, .int x5)]) hx hb dX1_manyBut_89 hl (by decide) rfl (fun ls hl => ?_)
            obtain ⟨w15, ew15, hd⟩ := bs_let_spec hd
            refine lv_iinc (pc := 91) (v := w15) (lv' := [(5, .int w15), (4, .int w14), (0, .ref (h 0)), (1, .int a1), (2, .int a2), (3, .int a3)]) hx hb dX1_manyBut_91 hl (k := 5) rfl (by rw [ew15]; rfl) (by decide) rfl (fun ls hl => ?_)
            refine lv_goto (pc := 94) (tgt := 6) hx hb dX1_manyBut_94 (by decide) ?_
            exact ih6 w14 w15 _ (lv_sub hl [2, 3, 4, 5, 1, 0] rfl) hd
          · have hd := if_t c13 hd
            refine lv_iconst (v := (1 : Int32)) (pc := 83) hx hb dX1_manyBut_83 (by decide) ?_
            refine lv_goto (pc := 84) (tgt := 88) hx hb dX1_manyBut_84 (by decide) ?_
            refine lv_iadd (pc := 88) hx hb dX1_manyBut_88 ?_
            obtain ⟨w16, ew16, hd⟩ := bs_let_spec hd
            refine lv_topE (pc := 89) ew16 ?_
            refine lv_istore (pc := 89) (lv' := [(4, .int w16), (0, .ref (h 0)), (1, .int a1), (2, .int a2), (3, .int a3), (5, .int x5)]) hx hb dX1_manyBut_89 hl (by decide) rfl (fun ls hl => ?_)
            obtain ⟨w17, ew17, hd⟩ := bs_let_spec hd
            refine lv_iinc (pc := 91) (v := w17) (lv' := [(5, .int w17), (4, .int w16), (0, .ref (h 0)), (1, .int a1), (2, .int a2), (3, .int a3)]) hx hb dX1_manyBut_91 hl (k := 5) rfl (by rw [ew17]; rfl) (by decide) rfl (fun ls hl => ?_)
            refine lv_goto (pc := 94) (tgt := 6) hx hb dX1_manyBut_94 (by decide) ?_
            exact ih6 w16 w17 _ (lv_sub hl [2, 3, 4, 5, 1, 0] rfl) hd
  unfold M_manyBut at hd
  refine lv_iconst (v := (0 : Int32)) (pc := 0) hx hb dX1_manyBut_0 (by decide) ?_
  refine lv_istore (pc := 1) (lv' := [(4, .int (0 : Int32)), (0, .ref (h 0)), (1, .int a1), (2, .int a2), (3, .int a3)]) hx hb dX1_manyBut_1 hl (by decide) rfl (fun ls hl => ?_)
  refine lv_iconst (v := (0 : Int32)) (pc := 3) hx hb dX1_manyBut_3 (by decide) ?_
  refine lv_istore (pc := 4) (lv' := [(5, .int (0 : Int32)), (4, .int (0 : Int32)), (0, .ref (h 0)), (1, .int a1), (2, .int a2), (3, .int a3)]) hx hb dX1_manyBut_4 hl (by decide) rfl (fun ls hl => ?_)
  exact h6 bs_fu (0 : Int32) (0 : Int32) _ (lv_sub hl [2, 3, 4, 5, 1, 0] rfl) hd
section CR_M_manyBut
variable {p : Program} {l : Launch} {e : Env} {R : Room} {s : State} {m : MethodId} {args : Array Value} {below : List Frame} {meth : Method} {c : Code} {H : Heap} {locs : List Loc} {cells slots : Nat} {Q : State → Prop}
variable {cc : ByteArray} {pc nL idx : Nat} {ls : Array Slot} {rest : List Value} {lv : List (Nat × Value)} {A : Nat → Prop} {H0 : Heap} {own : String}
theorem call_M_manyBut {D : va_G} {ct : Nat → ClassId} {h : Nat → Nat} {st : MS} {a1 : Int32} {a2 : Int32} {a3 : Int32} {z : Int32} (S : CallFix p m c cc nL s args lw_all own) (hl : lv_has ls nL lv) (hK : va_K D clA (tysG ct) s) (hH : GH D A (mAs h) H0 (WM ct h st) H locs) (hlk : Cond.methodLink own idx yX1_manyBut ∈ lw_all) (hv : M_manyBut st a1 a2 a3 = some z) (hR : 3 ≤ R.frames ∧ 75 ≤ R.locals) (hsum : (rest.map fun v => v.category).sum ≤ 8) (hdg : decode cc pc = .ok (.invokevirtual idx, 3)) (hf : cells ≤ R.cells ∧ slots ≤ R.slots)
    (k : W p l e R s m args below meth c H locs cells slots Q (F0 m (pc + 3) ls (.int z :: rest))) : W p l e R s m args below meth c H locs cells slots Q (F0 m pc ls (.int a3 :: .int a2 :: .int a1 :: .ref (h 0) :: rest)) :=
  r_calli (av := [.int a1, .int a2, .int a3]) S hl gE_0_ok trivial hK hH (met_M_manyBut l D ct h H.size st a1 a2 a3 z hv) (lw_V hlk q1129 qs54 q70 q1130) rfl rfl ⟨rfl, by decide, by decide, by show (parseMethodDescriptor yX1_manyBut.desc).map (fun d => d.parameters.length) = some 3; decide +kernel⟩ hR (m_recv hK hH) rfl hsum hdg hf k
end CR_M_manyBut
/-! CapCouncilModel.mark (II)I -/
def M_mark (st : MS) (a1 : Int32) (a2 : Int32) : Option (MS × Int32) :=
  (M_isRing st a1).bind fun v1 =>
  if v1 = 0 then
    (some (st, (-1 : Int32)))
  else
    ((M_in (a2.toInt64) (1 : Int64) (5 : Int64)).bind fun v3 =>
    if v3 = 0 then
      (some (st, (-1 : Int32)))
    else
      ((bs_ld (ma st 0) 84 ((2 : Int32) + a1)).bind fun v5 =>
      (M_isOf v5 a2).bind fun v6 =>
      if v6 = 0 then
        ((M_finds st (3 : Int32)).bind fun q15 =>
        some (q15.1, q15.2))
      else
        (if a2 = (3 : Int32) then
          ((bs_ld (ma st 0) 84 (70 : Int32)).bind fun v9 =>
          some (st, (v9 - v9 / (2 : Int32) * (2 : Int32))))
        else
        if a2 = (4 : Int32) then
          ((M_manyBut st a1 (1 : Int32) (4 : Int32)).bind fun v11 =>
          some (st, v11))
        else
        if a2 = (5 : Int32) then
          ((M_manyBut st a1 (5 : Int32) (2 : Int32)).bind fun v13 =>
          some (st, v13))
        else
          ((M_manyBut st a1 (0 : Int32) v5).bind fun v14 =>
          some (st, v14)))))
def rm_M_mark : Room := { frames := 3, cells := 0, slots := 0, locals := 75 }
set_option maxHeartbeats 4000000 in
set_option maxRecDepth 100000 in
theorem met_M_mark (l : Launch) (D : va_G) (ct : Nat → ClassId) (h : Nat → Nat) (sz : Nat) (st : MS) (a1 : Int32) (a2 : Int32) (z : (MS × Int32)) (hd : M_mark st a1 a2 = some z) : Met l yX1_mark (ws_ yX1_mark cX1_mark 4 (some .int)) rm_M_mark (GPre gE_0 D ct (mAs h) (WM ct h st) sz [.ref (h 0), .int a1, .int a2]) (GQi D (mAs h) (mAs h) (WM ct h z.1) sz z.2) 0 0 (gA (mAs h) sz) := by
  refine g_met (cc := cX1_mark) (maxL := 4) (ret := (some .int)) (by decide) (Nat.le_of_ble_eq_true rfl) ?_
  intro p e U m args below meth c ls S hr hlk hK hH hE hsz hl
  have S : CallFix p m c cX1_mark 4 U args lw_all RX1 := S
  have hx := S.1
  have hb := S.2.1
  have hl : lv_has ls 4 [(0, .ref (h 0)), (1, .int a1), (2, .int a2)] := hl
  unfold M_mark at hd
  refine lv_aload_n (pc := 0) hx hb dX1_mark_0 rfl (lv_at hl 0 rfl) ?_
  refine lv_iload_n (pc := 1) hx hb dX1_mark_1 rfl (lv_at hl 1 rfl) ?_
  obtain ⟨v1, hv1, hd⟩ := bs_bd hd
  refine call_M_isRing (pc := 2) S hl hK hH q1066 hv1 ⟨Nat.le_of_ble_eq_true rfl, Nat.le_of_ble_eq_true rfl⟩ (Nat.le_of_ble_eq_true rfl) dX1_mark_2 ⟨Nat.zero_le _, Nat.zero_le _⟩ ?_
  refine lv_if_eq (pc := 5) (tgt := 20) hx hb dX1_mark_5 (by decide) (fun c2 => ?_) (fun c2 => ?_)
  · have hd := if_t c2 hd
    refine lv_iconst (v := (-1 : Int32)) (pc := 20) hx hb dX1_mark_20 (by decide) ?_
    exact g_iret (WM ct h) hd S hr hlk hH dX1_mark_21
  · have hd := if_n c2 hd
    refine lv_iload_n (pc := 8) hx hb dX1_mark_8 rfl (lv_at hl 2 rfl) ?_
    refine lv_i2l (pc := 9) hx hb dX1_mark_9 rfl ?_
    refine lv_lconst (v := (1 : Int64)) (pc := 10) hx hb dX1_mark_10 (by decide) ?_
    refine lv_ldc2 (pc := 11) (own := RX1) (v := (5 : Int64)) hx hb S.2.2.2.1 (S.2.2.2.2 _ q973) dX1_mark_11 ?_
    obtain ⟨v3, hv3, hd⟩ := bs_bd hd
    refine call_M_in (pc := 14) S hl q974 hv3 ⟨Nat.le_of_ble_eq_true rfl, Nat.le_of_ble_eq_true rfl⟩ (Nat.le_of_ble_eq_true rfl) dX1_mark_14 ⟨Nat.zero_le _, Nat.zero_le _⟩ ?_
    refine lv_if_ne (pc := 17) (tgt := 22) hx hb dX1_mark_17 (by decide) (fun c4 => ?_) (fun c4 => ?_)
    · have hd := if_n c4 hd
      refine lv_aload_n (pc := 22) hx hb dX1_mark_22 rfl (lv_at hl 0 rfl) ?_
      refine mg_now (pc := 23) S hK hH dX1_mark_23 ?_
      refine lv_iconst (v := (2 : Int32)) (pc := 26) hx hb dX1_mark_26 (by decide) ?_
      refine lv_iload_n (pc := 27) hx hb dX1_mark_27 rfl (lv_at hl 1 rfl) ?_
      refine lv_iadd (pc := 28) hx hb dX1_mark_28 ?_
      obtain ⟨v5, hv5, hd⟩ := bs_bd hd
      refine ml_now (pc := 29) S hK hH hv5 dX1_mark_29 ?_
      refine lv_istore_n (pc := 30) (lv' := [(3, .int v5), (0, .ref (h 0)), (1, .int a1), (2, .int a2)]) hx hb dX1_mark_30 rfl hl (by decide) rfl (fun ls hl => ?_)
      refine lv_iload_n (pc := 31) hx hb dX1_mark_31 rfl (lv_at hl 0 rfl) ?_
      refine lv_iload_n (pc := 32) hx hb dX1_mark_32 rfl (lv_at hl 3 rfl) ?_
      obtain ⟨v6, hv6, hd⟩ := bs_bd hd
      refine call_M_isOf (pc := 33) S hl q1124 hv6 ⟨Nat.le_of_ble_eq_true rfl, Nat.le_of_ble_eq_true rfl⟩ (Nat.le_of_ble_eq_true rfl) dX1_mark_33 ⟨Nat.zero_le _, Nat.zero_le _⟩ ?_
      refine lv_if_ne (pc := 36) (tgt := 45) hx hb dX1_mark_36 (by decide) (fun c7 => ?_) (fun c7 => ?_)
      · have hd := if_n c7 hd
        refine lv_iload_n (pc := 45) hx hb dX1_mark_45 rfl (lv_at hl 3 rfl) ?_
        by_cases c8 : a2 = (3 : Int32)
        · have hd := if_t c8 hd
          refine lv_tabE (pc := 46) (off := 26) (tgt := 72) hx hb dX1_mark_46 c8 (by decide) (by decide) rfl (by decide) ?_
          refine lv_aload_n (pc := 72) hx hb dX1_mark_72 rfl (lv_at hl 1 rfl) ?_
          refine mg_now (pc := 73) S hK hH dX1_mark_73 ?_
          refine lv_bipush (v := (70 : Int32)) (pc := 76) hx hb dX1_mark_76 (by decide) ?_
          obtain ⟨v9, hv9, hd⟩ := bs_bd hd
          refine ml_now (pc := 78) S hK hH hv9 dX1_mark_78 ?_
          refine lv_iconst (v := (2 : Int32)) (pc := 79) hx hb dX1_mark_79 (by decide) ?_
          refine lv_irem (pc := 80) hx hb dX1_mark_80 (by decide) ?_
          exact g_iret (WM ct h) hd S hr hlk hH dX1_mark_81
        have hd := if_n c8 hd
        by_cases c10 : a2 = (4 : Int32)
        · have hd := if_t c10 hd
          refine lv_tabE (pc := 46) (off := 36) (tgt := 82) hx hb dX1_mark_46 c10 (by decide) (by decide) rfl (by decide) ?_
          refine lv_aload_n (pc := 82) hx hb dX1_mark_82 rfl (lv_at hl 1 rfl) ?_
          refine lv_iload_n (pc := 83) hx hb dX1_mark_83 rfl (lv_at hl 2 rfl) ?_
          refine lv_iconst (v := (1 : Int32)) (pc := 84) hx hb dX1_mark_84 (by decide) ?_
          refine lv_iconst (v := (4 : Int32)) (pc := 85) hx hb dX1_mark_85 (by decide) ?_
          obtain ⟨v11, hv11, hd⟩ := bs_bd hd
          refine call_M_manyBut (pc := 86) S hl hK hH q1127 hv11 ⟨Nat.le_of_ble_eq_true rfl, Nat.le_of_ble_eq_true rfl⟩ (Nat.le_of_ble_eq_true rfl) dX1_mark_86 ⟨Nat.zero_le _, Nat.zero_le _⟩ ?_
          exact g_iret (WM ct h) hd S hr hlk hH dX1_mark_89
        have hd := if_n c10 hd
        by_cases c12 : a2 = (5 : Int32)
        · have hd := if_t c12 hd
          refine lv_tabE (pc := 46) (off := 44) (tgt := 90) hx hb dX1_mark_46 c12 (by decide) (by decide) rfl (by decide) ?_
          refine lv_aload_n (pc := 90) hx hb dX1_mark_90 rfl (lv_at hl 1 rfl) ?_
          refine lv_iload_n (pc := 91) hx hb dX1_mark_91 rfl (lv_at hl 2 rfl) ?_
          refine lv_iconst (v := (5 : Int32)) (pc := 92) hx hb dX1_mark_92 (by decide) ?_
          refine lv_iconst (v := (2 : Int32)) (pc := 93) hx hb dX1_mark_93 (by decide) ?_
          obtain ⟨v13, hv13, hd⟩ := bs_bd hd
          refine call_M_manyBut (pc := 94) S hl hK hH q1127 hv13 ⟨Nat.le_of_ble_eq_true rfl, Nat.le_of_ble_eq_true rfl⟩ (Nat.le_of_ble_eq_true rfl) dX1_mark_94 ⟨Nat.zero_le _, Nat.zero_le _⟩ ?_
          exact g_iret (WM ct h) hd S hr hlk hH dX1_mark_97
        have hd := if_n c12 hd
        refine lv_tableOut (pc := 46) (tgt := 98) hx hb dX1_mark_46 (by have zc8 := lv_neT c8 (a := 3) (by decide); have zc10 := lv_neT c10 (a := 4) (by decide); have zc12 := lv_neT c12 (a := 5) (by decide); omega) (by decide) ?_
        refine lv_aload_n (pc := 98) hx hb dX1_mark_98 rfl (lv_at hl 1 rfl) ?_
        refine lv_iload_n (pc := 99) hx hb dX1_mark_99 rfl (lv_at hl 2 rfl) ?_
        refine lv_iconst (v := (0 : Int32)) (pc := 100) hx hb dX1_mark_100 (by decide) ?_
        refine lv_iload_n (pc := 101) hx hb dX1_mark_101 rfl (lv_at hl 0 rfl) ?_
        obtain ⟨v14, hv14, hd⟩ := bs_bd hd
        refine call_M_manyBut (pc := 102) S hl hK hH q1127 hv14 ⟨Nat.le_of_ble_eq_true rfl, Nat.le_of_ble_eq_true rfl⟩ (Nat.le_of_ble_eq_true rfl) dX1_mark_102 ⟨Nat.zero_le _, Nat.zero_le _⟩ ?_
        exact g_iret (WM ct h) hd S hr hlk hH dX1_mark_105
      · have hd := if_t c7 hd
        refine lv_aload_n (pc := 39) hx hb dX1_mark_39 rfl (lv_at hl 1 rfl) ?_
        refine lv_iconst (v := (3 : Int32)) (pc := 40) hx hb dX1_mark_40 (by decide) ?_
        obtain ⟨q15, hq15, hd⟩ := bs_bd hd
        refine call_M_finds (pc := 41) S hl hK hH q977 hq15 ⟨Nat.le_of_ble_eq_true rfl, Nat.le_of_ble_eq_true rfl⟩ (Nat.le_of_ble_eq_true rfl) dX1_mark_41 ⟨Nat.zero_le _, Nat.zero_le _⟩ (fun H locs hH => ?_)
        exact g_iret (WM ct h) hd S hr hlk hH dX1_mark_44
    · have hd := if_t c4 hd
      refine lv_iconst (v := (-1 : Int32)) (pc := 20) hx hb dX1_mark_20 (by decide) ?_
      exact g_iret (WM ct h) hd S hr hlk hH dX1_mark_21
section CR_M_mark
variable {p : Program} {l : Launch} {e : Env} {R : Room} {s : State} {m : MethodId} {args : Array Value} {below : List Frame} {meth : Method} {c : Code} {H : Heap} {locs : List Loc} {cells slots : Nat} {Q : State → Prop}
variable {cc : ByteArray} {pc nL idx : Nat} {ls : Array Slot} {rest : List Value} {lv : List (Nat × Value)} {A : Nat → Prop} {H0 : Heap} {own : String}
theorem call_M_mark {D : va_G} {ct : Nat → ClassId} {h : Nat → Nat} {st : MS} {a1 : Int32} {a2 : Int32} {z : (MS × Int32)} (S : CallFix p m c cc nL s args lw_all own) (hl : lv_has ls nL lv) (hK : va_K D clA (tysG ct) s) (hH : GH D A (mAs h) H0 (WM ct h st) H locs) (hlk : Cond.methodLink own idx yX1_mark ∈ lw_all) (hv : M_mark st a1 a2 = some z) (hR : 4 ≤ R.frames ∧ 98 ≤ R.locals) (hsum : (rest.map fun v => v.category).sum ≤ 8) (hdg : decode cc pc = .ok (.invokevirtual idx, 3)) (hf : cells ≤ R.cells ∧ slots ≤ R.slots)
    (k : ∀ (H1 : Heap) (locs1 : List Loc), GH D A (mAs h) H0 (WM ct h z.1) H1 locs1 → W p l e R s m args below meth c H1 locs1 cells slots Q (F0 m (pc + 3) ls (.int z.2 :: rest))) : W p l e R s m args below meth c H locs cells slots Q (F0 m pc ls (.int a2 :: .int a1 :: .ref (h 0) :: rest)) :=
  g_calli (av := [.int a1, .int a2]) S hl gE_0_ok trivial hK hH (met_M_mark l D ct h H.size st a1 a2 z hv) (lw_V hlk q1121 q1122 q70 q1123) rfl rfl ⟨rfl, by decide, by decide, by show (parseMethodDescriptor yX1_mark.desc).map (fun d => d.parameters.length) = some 2; decide +kernel⟩ hR (m_recv hK hH) (fun _ h => Or.inl h) rfl hsum hdg hf k
end CR_M_mark
/-! CapCouncilModel.isPlace (I)Z -/
def M_isPlace (a0 : Int32) : Option Int32 :=
  (M_in (a0.toInt64) (0 : Int64) (99 : Int64)).bind fun v1 =>
  bs_gb v1 (some v1)
def rm_M_isPlace : Room := { frames := 1, cells := 0, slots := 0, locals := 25 }
set_option maxHeartbeats 4000000 in
set_option maxRecDepth 100000 in
theorem met_M_isPlace (l : Launch) (a0 : Int32) (z : Int32) (hd : M_isPlace a0 = some z) : Met l yX1_isPlace (ws_ yX1_isPlace cX1_isPlace 1 (some .boolean)) rm_M_isPlace (va_Pc [.int a0] (fun _ => True)) (vp_Si (fun r => r = z)) 0 0 (fun _ => False) := by
  refine p_met (cc := cX1_isPlace) (maxL := 1) (ret := (some .boolean)) (by decide) (Nat.le_of_ble_eq_true rfl) ?_
  intro p e U m args below meth c ls S hr hlk hl
  have S : CallFix p m c cX1_isPlace 1 U args lw_all RX1 := S
  have hx := S.1
  have hb := S.2.1
  have hl : lv_has ls 1 [(0, .int a0)] := hl
  unfold M_isPlace at hd
  refine lv_iload_n (pc := 0) hx hb dX1_isPlace_0 rfl (lv_at hl 0 rfl) ?_
  refine lv_i2l (pc := 1) hx hb dX1_isPlace_1 rfl ?_
  refine lv_lconst (v := (0 : Int64)) (pc := 2) hx hb dX1_isPlace_2 (by decide) ?_
  refine lv_ldc2 (pc := 3) (own := RX1) (v := (99 : Int64)) hx hb S.2.2.2.1 (S.2.2.2.2 _ q1138) dX1_isPlace_3 ?_
  obtain ⟨v1, hv1, hd⟩ := bs_bd hd
  refine call_M_in (pc := 6) S hl q974 hv1 ⟨Nat.le_of_ble_eq_true rfl, Nat.le_of_ble_eq_true rfl⟩ (Nat.le_of_ble_eq_true rfl) dX1_isPlace_6 ⟨Nat.zero_le _, Nat.zero_le _⟩ ?_
  obtain ⟨hn2, hd⟩ := bs_gb_spec hd
  exact r_zret hn2 hd S hr hlk dX1_isPlace_9
section CR_M_isPlace
variable {p : Program} {l : Launch} {e : Env} {R : Room} {s : State} {m : MethodId} {args : Array Value} {below : List Frame} {meth : Method} {c : Code} {H : Heap} {locs : List Loc} {cells slots : Nat} {Q : State → Prop}
variable {cc : ByteArray} {pc nL idx : Nat} {ls : Array Slot} {rest : List Value} {lv : List (Nat × Value)} {A : Nat → Prop} {H0 : Heap} {own : String}
theorem call_M_isPlace {a0 : Int32} {z : Int32} (S : CallFix p m c cc nL s args lw_all own) (hl : lv_has ls nL lv) (hlk : Cond.methodLink own idx yX1_isPlace ∈ lw_all) (hv : M_isPlace a0 = some z) (hR : 2 ≤ R.frames ∧ 45 ≤ R.locals) (hsum : (rest.map fun v => v.category).sum ≤ 8) (hdg : decode cc pc = .ok (.invokestatic idx, 3)) (hf : cells ≤ R.cells ∧ slots ≤ R.slots)
    (k : W p l e R s m args below meth c H locs cells slots Q (F0 m (pc + 3) ls (.int z :: rest))) : W p l e R s m args below meth c H locs cells slots Q (F0 m pc ls (.int a0 :: rest)) :=
  p_calli (av := [.int a0]) S hl (met_M_isPlace l a0 z hv) (lw_S hlk q1136 q70 q1137) rfl rfl ⟨by decide, by decide, by show (parseMethodDescriptor yX1_isPlace.desc).map (fun d => d.parameters.length) = some 1; decide +kernel⟩ hR rfl hsum hdg hf k
end CR_M_isPlace
/-! CapCouncilModel.within (III)I -/
def M_within (st : MS) (a1 : Int32) (a2 : Int32) (a3 : Int32) : Option Int32 :=
  (M_isRing st a1).bind fun v1 =>
  if v1 = 0 then
    (some (-1 : Int32))
  else
    ((M_isPlace a2).bind fun v3 =>
    if v3 = 0 then
      (some (-1 : Int32))
    else
      ((M_in (a3.toInt64) (0 : Int64) (99 : Int64)).bind fun v5 =>
      if v5 = 0 then
        (some (-1 : Int32))
      else
        ((M_isIn st a1 a2 a3).bind fun v7 =>
        if v7 = 0 then
          (some (0 : Int32))
        else
          (some (1 : Int32)))))
def rm_M_within : Room := { frames := 3, cells := 0, slots := 0, locals := 73 }
set_option maxHeartbeats 4000000 in
set_option maxRecDepth 100000 in
theorem met_M_within (l : Launch) (D : va_G) (ct : Nat → ClassId) (h : Nat → Nat) (sz : Nat) (st : MS) (a1 : Int32) (a2 : Int32) (a3 : Int32) (z : Int32) (hd : M_within st a1 a2 a3 = some z) : Met l yX1_within (ws_ yX1_within cX1_within 4 (some .int)) rm_M_within (GPre gE_0 D ct (mAs h) (WM ct h st) sz [.ref (h 0), .int a1, .int a2, .int a3]) (vp_Si (fun r => r = z)) 0 0 (fun _ => False) := by
  refine g_met (cc := cX1_within) (maxL := 4) (ret := (some .int)) (by decide) (Nat.le_of_ble_eq_true rfl) ?_
  intro p e U m args below meth c ls S hr hlk hK hH hE hsz hl
  have S : CallFix p m c cX1_within 4 U args lw_all RX1 := S
  have hx := S.1
  have hb := S.2.1
  have hl : lv_has ls 4 [(0, .ref (h 0)), (1, .int a1), (2, .int a2), (3, .int a3)] := hl
  unfold M_within at hd
  refine lv_aload_n (pc := 0) hx hb dX1_within_0 rfl (lv_at hl 0 rfl) ?_
  refine lv_iload_n (pc := 1) hx hb dX1_within_1 rfl (lv_at hl 1 rfl) ?_
  obtain ⟨v1, hv1, hd⟩ := bs_bd hd
  refine call_M_isRing (pc := 2) S hl hK hH q1066 hv1 ⟨Nat.le_of_ble_eq_true rfl, Nat.le_of_ble_eq_true rfl⟩ (Nat.le_of_ble_eq_true rfl) dX1_within_2 ⟨Nat.zero_le _, Nat.zero_le _⟩ ?_
  refine lv_if_eq (pc := 5) (tgt := 27) hx hb dX1_within_5 (by decide) (fun c2 => ?_) (fun c2 => ?_)
  · have hd := if_t c2 hd
    refine lv_iconst (v := (-1 : Int32)) (pc := 27) hx hb dX1_within_27 (by decide) ?_
    refine lv_goto (pc := 28) (tgt := 46) hx hb dX1_within_28 (by decide) ?_
    exact r_iret hd S hr hlk dX1_within_46
  · have hd := if_n c2 hd
    refine lv_iload_n (pc := 8) hx hb dX1_within_8 rfl (lv_at hl 2 rfl) ?_
    obtain ⟨v3, hv3, hd⟩ := bs_bd hd
    refine call_M_isPlace (pc := 9) S hl q1135 hv3 ⟨Nat.le_of_ble_eq_true rfl, Nat.le_of_ble_eq_true rfl⟩ (Nat.le_of_ble_eq_true rfl) dX1_within_9 ⟨Nat.zero_le _, Nat.zero_le _⟩ ?_
    refine lv_if_eq (pc := 12) (tgt := 27) hx hb dX1_within_12 (by decide) (fun c4 => ?_) (fun c4 => ?_)
    · have hd := if_t c4 hd
      refine lv_iconst (v := (-1 : Int32)) (pc := 27) hx hb dX1_within_27 (by decide) ?_
      refine lv_goto (pc := 28) (tgt := 46) hx hb dX1_within_28 (by decide) ?_
      exact r_iret hd S hr hlk dX1_within_46
    · have hd := if_n c4 hd
      refine lv_iload_n (pc := 15) hx hb dX1_within_15 rfl (lv_at hl 3 rfl) ?_
      refine lv_i2l (pc := 16) hx hb dX1_within_16 rfl ?_
      refine lv_lconst (v := (0 : Int64)) (pc := 17) hx hb dX1_within_17 (by decide) ?_
      refine lv_ldc2 (pc := 18) (own := RX1) (v := (99 : Int64)) hx hb S.2.2.2.1 (S.2.2.2.2 _ q1138) dX1_within_18 ?_
      obtain ⟨v5, hv5, hd⟩ := bs_bd hd
      refine call_M_in (pc := 21) S hl q974 hv5 ⟨Nat.le_of_ble_eq_true rfl, Nat.le_of_ble_eq_true rfl⟩ (Nat.le_of_ble_eq_true rfl) dX1_within_21 ⟨Nat.zero_le _, Nat.zero_le _⟩ ?_
      refine lv_if_ne (pc := 24) (tgt := 31) hx hb dX1_within_24 (by decide) (fun c6 => ?_) (fun c6 => ?_)
      · have hd := if_n c6 hd
        refine lv_aload_n (pc := 31) hx hb dX1_within_31 rfl (lv_at hl 0 rfl) ?_
        refine lv_iload_n (pc := 32) hx hb dX1_within_32 rfl (lv_at hl 1 rfl) ?_
        refine lv_iload_n (pc := 33) hx hb dX1_within_33 rfl (lv_at hl 2 rfl) ?_
        refine lv_iload_n (pc := 34) hx hb dX1_within_34 rfl (lv_at hl 3 rfl) ?_
        obtain ⟨v7, hv7, hd⟩ := bs_bd hd
        refine call_M_isIn (pc := 35) S hl hK hH q1085 hv7 ⟨Nat.le_of_ble_eq_true rfl, Nat.le_of_ble_eq_true rfl⟩ (Nat.le_of_ble_eq_true rfl) dX1_within_35 ⟨Nat.zero_le _, Nat.zero_le _⟩ ?_
        refine lv_if_eq (pc := 38) (tgt := 45) hx hb dX1_within_38 (by decide) (fun c8 => ?_) (fun c8 => ?_)
        · have hd := if_t c8 hd
          refine lv_iconst (v := (0 : Int32)) (pc := 45) hx hb dX1_within_45 (by decide) ?_
          exact r_iret hd S hr hlk dX1_within_46
        · have hd := if_n c8 hd
          refine lv_iconst (v := (1 : Int32)) (pc := 41) hx hb dX1_within_41 (by decide) ?_
          refine lv_goto (pc := 42) (tgt := 46) hx hb dX1_within_42 (by decide) ?_
          exact r_iret hd S hr hlk dX1_within_46
      · have hd := if_t c6 hd
        refine lv_iconst (v := (-1 : Int32)) (pc := 27) hx hb dX1_within_27 (by decide) ?_
        refine lv_goto (pc := 28) (tgt := 46) hx hb dX1_within_28 (by decide) ?_
        exact r_iret hd S hr hlk dX1_within_46
section CR_M_within
variable {p : Program} {l : Launch} {e : Env} {R : Room} {s : State} {m : MethodId} {args : Array Value} {below : List Frame} {meth : Method} {c : Code} {H : Heap} {locs : List Loc} {cells slots : Nat} {Q : State → Prop}
variable {cc : ByteArray} {pc nL idx : Nat} {ls : Array Slot} {rest : List Value} {lv : List (Nat × Value)} {A : Nat → Prop} {H0 : Heap} {own : String}
theorem call_M_within {D : va_G} {ct : Nat → ClassId} {h : Nat → Nat} {st : MS} {a1 : Int32} {a2 : Int32} {a3 : Int32} {z : Int32} (S : CallFix p m c cc nL s args lw_all own) (hl : lv_has ls nL lv) (hK : va_K D clA (tysG ct) s) (hH : GH D A (mAs h) H0 (WM ct h st) H locs) (hlk : Cond.methodLink own idx yX1_within ∈ lw_all) (hv : M_within st a1 a2 a3 = some z) (hR : 4 ≤ R.frames ∧ 96 ≤ R.locals) (hsum : (rest.map fun v => v.category).sum ≤ 8) (hdg : decode cc pc = .ok (.invokevirtual idx, 3)) (hf : cells ≤ R.cells ∧ slots ≤ R.slots)
    (k : W p l e R s m args below meth c H locs cells slots Q (F0 m (pc + 3) ls (.int z :: rest))) : W p l e R s m args below meth c H locs cells slots Q (F0 m pc ls (.int a3 :: .int a2 :: .int a1 :: .ref (h 0) :: rest)) :=
  r_calli (av := [.int a1, .int a2, .int a3]) S hl gE_0_ok trivial hK hH (met_M_within l D ct h H.size st a1 a2 a3 z hv) (lw_V hlk q1132 q1133 q70 q1134) rfl rfl ⟨rfl, by decide, by decide, by show (parseMethodDescriptor yX1_within.desc).map (fun d => d.parameters.length) = some 3; decide +kernel⟩ hR (m_recv hK hH) rfl hsum hdg hf k
end CR_M_within
/-! CapCouncilModel.goDeed ([II)V -/
def M_goDeed_now (st : MS) (a1 : Int32) : Option MS :=
  bs_let (a1 - a1 / (1000 : Int32) * (1000 : Int32)) fun w1 =>
  if a1 < (4000 : Int32) then
    (if a1 < (3000 : Int32) then
      (if a1 < (2000 : Int32) then
        (if a1 < (1000 : Int32) then
          ((bs_ld (ma st 0) 84 (70 : Int32)).bind fun v6 =>
          (mast st 0 84 (70 : Int32) (v6 + (1 : Int32))).bind fun s7 =>
          some s7)
        else
          ((mast st 0 84 ((72 : Int32) + (w1 / (100 : Int32))) (w1 - w1 / (100 : Int32) * (100 : Int32))).bind fun s8 =>
          some s8))
      else
        ((bs_ld (ma st 0) 84 (71 : Int32)).bind fun v9 =>
        (mast st 0 84 (71 : Int32) (v9 &&& (((1 : Int32) <<< (w1 &&& 31)) ^^^ (-1 : Int32)))).bind fun s10 =>
        some s10))
    else
      ((bs_ld (ma st 0) 84 (71 : Int32)).bind fun v11 =>
      (mast st 0 84 (71 : Int32) (v11 ||| ((1 : Int32) <<< (w1 &&& 31)))).bind fun s12 =>
      some s12))
  else
    ((mast st 0 84 ((78 : Int32) + (w1 / (10 : Int32))) (w1 - w1 / (10 : Int32) * (10 : Int32))).bind fun s13 =>
    some s13)
def rm_M_goDeed_now : Room := { frames := 0, cells := 0, slots := 0, locals := 0 }
set_option maxHeartbeats 4000000 in
set_option maxRecDepth 100000 in
theorem met_M_goDeed_now (l : Launch) (D : va_G) (ct : Nat → ClassId) (h : Nat → Nat) (sz : Nat) (st : MS) (a1 : Int32) (z : MS) (hd : M_goDeed_now st a1 = some z) : Met l yX1_goDeed (ws_ yX1_goDeed cX1_goDeed 3 none) rm_M_goDeed_now (GPre gE_0 D ct (mAs h) (WM ct h st) sz [.ref (h 1), .int a1]) (GQv D (mAs h) (mAs h) (WM ct h z) sz) 0 0 (gA (mAs h) sz) := by
  refine g_met (cc := cX1_goDeed) (maxL := 3) (ret := none) (by decide) (Nat.le_of_ble_eq_true rfl) ?_
  intro p e U m args below meth c ls S hr hlk hK hH hE hsz hl
  have S : CallFix p m c cX1_goDeed 3 U args lw_all RX1 := S
  have hx := S.1
  have hb := S.2.1
  have hl : lv_has ls 3 [(0, .ref (h 1)), (1, .int a1)] := hl
  unfold M_goDeed_now at hd
  refine lv_iload_n (pc := 0) hx hb dX1_goDeed_0 rfl (lv_at hl 1 rfl) ?_
  refine lv_sipush (v := (1000 : Int32)) (pc := 1) hx hb dX1_goDeed_1 (by decide) ?_
  refine lv_irem (pc := 4) hx hb dX1_goDeed_4 (by decide) ?_
  obtain ⟨w1, ew1, hd⟩ := bs_let_spec hd
  refine lv_topE (pc := 5) ew1 ?_
  refine lv_istore_n (pc := 5) (lv' := [(2, .int w1), (0, .ref (h 1)), (1, .int a1)]) hx hb dX1_goDeed_5 rfl hl (by decide) rfl (fun ls hl => ?_)
  refine lv_iload_n (pc := 6) hx hb dX1_goDeed_6 rfl (lv_at hl 2 rfl) ?_
  refine lv_sipush (v := (4000 : Int32)) (pc := 7) hx hb dX1_goDeed_7 (by decide) ?_
  refine lv_icmp_lt (pc := 10) (tgt := 29) hx hb dX1_goDeed_10 (by decide) (fun c2 => ?_) (fun c2 => ?_)
  · have hd := if_t c2 hd
    refine lv_iload_n (pc := 29) hx hb dX1_goDeed_29 rfl (lv_at hl 2 rfl) ?_
    refine lv_sipush (v := (3000 : Int32)) (pc := 30) hx hb dX1_goDeed_30 (by decide) ?_
    refine lv_icmp_lt (pc := 33) (tgt := 49) hx hb dX1_goDeed_33 (by decide) (fun c3 => ?_) (fun c3 => ?_)
    · have hd := if_t c3 hd
      refine lv_iload_n (pc := 49) hx hb dX1_goDeed_49 rfl (lv_at hl 2 rfl) ?_
      refine lv_sipush (v := (2000 : Int32)) (pc := 50) hx hb dX1_goDeed_50 (by decide) ?_
      refine lv_icmp_lt (pc := 53) (tgt := 71) hx hb dX1_goDeed_53 (by decide) (fun c4 => ?_) (fun c4 => ?_)
      · have hd := if_t c4 hd
        refine lv_iload_n (pc := 71) hx hb dX1_goDeed_71 rfl (lv_at hl 2 rfl) ?_
        refine lv_sipush (v := (1000 : Int32)) (pc := 72) hx hb dX1_goDeed_72 (by decide) ?_
        refine lv_icmp_lt (pc := 75) (tgt := 94) hx hb dX1_goDeed_75 (by decide) (fun c5 => ?_) (fun c5 => ?_)
        · have hd := if_t c5 hd
          refine lv_aload_n (pc := 94) hx hb dX1_goDeed_94 rfl (lv_at hl 1 rfl) ?_
          refine lv_bipush (v := (70 : Int32)) (pc := 95) hx hb dX1_goDeed_95 (by decide) ?_
          refine lv_dup2_11 (pc := 97) hx hb dX1_goDeed_97 rfl rfl ?_
          obtain ⟨v6, hv6, hd⟩ := bs_bd hd
          refine ml_now (pc := 98) S hK hH hv6 dX1_goDeed_98 ?_
          refine lv_iconst (v := (1 : Int32)) (pc := 99) hx hb dX1_goDeed_99 (by decide) ?_
          refine lv_iadd (pc := 100) hx hb dX1_goDeed_100 ?_
          obtain ⟨s7, hs7, hd⟩ := bs_bd hd
          refine ms_now (pc := 101) S hK hH hs7 dX1_goDeed_101 (fun H locs hH => ?_)
          exact g_vret (WM ct h) hd S hr hlk hH dX1_goDeed_102
        · have hd := if_n c5 hd
          refine lv_aload_n (pc := 78) hx hb dX1_goDeed_78 rfl (lv_at hl 1 rfl) ?_
          refine lv_bipush (v := (72 : Int32)) (pc := 79) hx hb dX1_goDeed_79 (by decide) ?_
          refine lv_iload_n (pc := 81) hx hb dX1_goDeed_81 rfl (lv_at hl 0 rfl) ?_
          refine lv_bipush (v := (100 : Int32)) (pc := 82) hx hb dX1_goDeed_82 (by decide) ?_
          refine lv_idiv (pc := 84) hx hb dX1_goDeed_84 (by decide) ?_
          refine lv_iadd (pc := 85) hx hb dX1_goDeed_85 ?_
          refine lv_iload_n (pc := 86) hx hb dX1_goDeed_86 rfl (lv_at hl 0 rfl) ?_
          refine lv_bipush (v := (100 : Int32)) (pc := 87) hx hb dX1_goDeed_87 (by decide) ?_
          refine lv_irem (pc := 89) hx hb dX1_goDeed_89 (by decide) ?_
          obtain ⟨s8, hs8, hd⟩ := bs_bd hd
          refine ms_now (pc := 90) S hK hH hs8 dX1_goDeed_90 (fun H locs hH => ?_)
          refine lv_goto (pc := 91) (tgt := 102) hx hb dX1_goDeed_91 (by decide) ?_
          exact g_vret (WM ct h) hd S hr hlk hH dX1_goDeed_102
      · have hd := if_n c4 hd
        refine lv_aload_n (pc := 56) hx hb dX1_goDeed_56 rfl (lv_at hl 1 rfl) ?_
        refine lv_bipush (v := (71 : Int32)) (pc := 57) hx hb dX1_goDeed_57 (by decide) ?_
        refine lv_dup2_11 (pc := 59) hx hb dX1_goDeed_59 rfl rfl ?_
        obtain ⟨v9, hv9, hd⟩ := bs_bd hd
        refine ml_now (pc := 60) S hK hH hv9 dX1_goDeed_60 ?_
        refine lv_iconst (v := (1 : Int32)) (pc := 61) hx hb dX1_goDeed_61 (by decide) ?_
        refine lv_iload_n (pc := 62) hx hb dX1_goDeed_62 rfl (lv_at hl 0 rfl) ?_
        refine lv_ishl (pc := 63) hx hb dX1_goDeed_63 ?_
        refine lv_iconst (v := (-1 : Int32)) (pc := 64) hx hb dX1_goDeed_64 (by decide) ?_
        refine lv_ixor (pc := 65) hx hb dX1_goDeed_65 ?_
        refine lv_iand (pc := 66) hx hb dX1_goDeed_66 ?_
        obtain ⟨s10, hs10, hd⟩ := bs_bd hd
        refine ms_now (pc := 67) S hK hH hs10 dX1_goDeed_67 (fun H locs hH => ?_)
        refine lv_goto (pc := 68) (tgt := 102) hx hb dX1_goDeed_68 (by decide) ?_
        exact g_vret (WM ct h) hd S hr hlk hH dX1_goDeed_102
    · have hd := if_n c3 hd
      refine lv_aload_n (pc := 36) hx hb dX1_goDeed_36 rfl (lv_at hl 1 rfl) ?_
      refine lv_bipush (v := (71 : Int32)) (pc := 37) hx hb dX1_goDeed_37 (by decide) ?_
      refine lv_dup2_11 (pc := 39) hx hb dX1_goDeed_39 rfl rfl ?_
      obtain ⟨v11, hv11, hd⟩ := bs_bd hd
      refine ml_now (pc := 40) S hK hH hv11 dX1_goDeed_40 ?_
      refine lv_iconst (v := (1 : Int32)) (pc := 41) hx hb dX1_goDeed_41 (by decide) ?_
      refine lv_iload_n (pc := 42) hx hb dX1_goDeed_42 rfl (lv_at hl 0 rfl) ?_
      refine lv_ishl (pc := 43) hx hb dX1_goDeed_43 ?_
      refine lv_ior (pc := 44) hx hb dX1_goDeed_44 ?_
      obtain ⟨s12, hs12, hd⟩ := bs_bd hd
      refine ms_now (pc := 45) S hK hH hs12 dX1_goDeed_45 (fun H locs hH => ?_)
      refine lv_goto (pc := 46) (tgt := 102) hx hb dX1_goDeed_46 (by decide) ?_
      exact g_vret (WM ct h) hd S hr hlk hH dX1_goDeed_102
  · have hd := if_n c2 hd
    refine lv_aload_n (pc := 13) hx hb dX1_goDeed_13 rfl (lv_at hl 1 rfl) ?_
    refine lv_bipush (v := (78 : Int32)) (pc := 14) hx hb dX1_goDeed_14 (by decide) ?_
    refine lv_iload_n (pc := 16) hx hb dX1_goDeed_16 rfl (lv_at hl 0 rfl) ?_
    refine lv_bipush (v := (10 : Int32)) (pc := 17) hx hb dX1_goDeed_17 (by decide) ?_
    refine lv_idiv (pc := 19) hx hb dX1_goDeed_19 (by decide) ?_
    refine lv_iadd (pc := 20) hx hb dX1_goDeed_20 ?_
    refine lv_iload_n (pc := 21) hx hb dX1_goDeed_21 rfl (lv_at hl 0 rfl) ?_
    refine lv_bipush (v := (10 : Int32)) (pc := 22) hx hb dX1_goDeed_22 (by decide) ?_
    refine lv_irem (pc := 24) hx hb dX1_goDeed_24 (by decide) ?_
    obtain ⟨s13, hs13, hd⟩ := bs_bd hd
    refine ms_now (pc := 25) S hK hH hs13 dX1_goDeed_25 (fun H locs hH => ?_)
    refine lv_goto (pc := 26) (tgt := 102) hx hb dX1_goDeed_26 (by decide) ?_
    exact g_vret (WM ct h) hd S hr hlk hH dX1_goDeed_102
section CR_M_goDeed_now
variable {p : Program} {l : Launch} {e : Env} {R : Room} {s : State} {m : MethodId} {args : Array Value} {below : List Frame} {meth : Method} {c : Code} {H : Heap} {locs : List Loc} {cells slots : Nat} {Q : State → Prop}
variable {cc : ByteArray} {pc nL idx : Nat} {ls : Array Slot} {rest : List Value} {lv : List (Nat × Value)} {A : Nat → Prop} {H0 : Heap} {own : String}
theorem call_M_goDeed_now {D : va_G} {ct : Nat → ClassId} {h : Nat → Nat} {st : MS} {a1 : Int32} {z : MS} (S : CallFix p m c cc nL s args lw_all own) (hl : lv_has ls nL lv) (hK : va_K D clA (tysG ct) s) (hH : GH D A (mAs h) H0 (WM ct h st) H locs) (hlk : Cond.methodLink own idx yX1_goDeed ∈ lw_all) (hv : M_goDeed_now st a1 = some z) (hR : 1 ≤ R.frames ∧ 22 ≤ R.locals) (hsum : (rest.map fun v => v.category).sum ≤ 8) (hdg : decode cc pc = .ok (.invokestatic idx, 3)) (hf : cells ≤ R.cells ∧ slots ≤ R.slots)
    (k : ∀ (H1 : Heap) (locs1 : List Loc), GH D A (mAs h) H0 (WM ct h z) H1 locs1 → W p l e R s m args below meth c H1 locs1 cells slots Q (F0 m (pc + 3) ls (rest))) : W p l e R s m args below meth c H locs cells slots Q (F0 m pc ls (.int a1 :: .ref (h 1) :: rest)) :=
  g_callsv (av := [.ref (h 1), .int a1]) S hl gE_0_ok trivial hK hH (met_M_goDeed_now l D ct h H.size st a1 z hv) (lw_S hlk q1148 q70 q1149) rfl rfl ⟨by decide, by decide, by show (parseMethodDescriptor yX1_goDeed.desc).map (fun d => d.parameters.length) = some 2; decide +kernel⟩ hR (fun _ h => Or.inl h) rfl hsum hdg hf k
end CR_M_goDeed_now
/-! CapCouncilModel.does (I)V -/
def M_does (st : MS) (a1 : Int32) : Option MS :=
  (bs_ld (ma st 0) 84 (29 : Int32)).bind fun v1 =>
  (mast st 0 84 ((30 : Int32) + v1) a1).bind fun s2 =>
  (bs_ld (ma s2 0) 84 (29 : Int32)).bind fun v3 =>
  (mast s2 0 84 (29 : Int32) (v3 + (1 : Int32))).bind fun s4 =>
  (M_goDeed_now s4 a1).bind fun q5 =>
  some q5
def rm_M_does : Room := { frames := 1, cells := 0, slots := 0, locals := 22 }
set_option maxHeartbeats 4000000 in
set_option maxRecDepth 100000 in
theorem met_M_does (l : Launch) (D : va_G) (ct : Nat → ClassId) (h : Nat → Nat) (sz : Nat) (st : MS) (a1 : Int32) (z : MS) (hd : M_does st a1 = some z) : Met l yX1_does (ws_ yX1_does cX1_does 2 none) rm_M_does (GPre gE_0 D ct (mAs h) (WM ct h st) sz [.ref (h 0), .int a1]) (GQv D (mAs h) (mAs h) (WM ct h z) sz) 0 0 (gA (mAs h) sz) := by
  refine g_met (cc := cX1_does) (maxL := 2) (ret := none) (by decide) (Nat.le_of_ble_eq_true rfl) ?_
  intro p e U m args below meth c ls S hr hlk hK hH hE hsz hl
  have S : CallFix p m c cX1_does 2 U args lw_all RX1 := S
  have hx := S.1
  have hb := S.2.1
  have hl : lv_has ls 2 [(0, .ref (h 0)), (1, .int a1)] := hl
  unfold M_does at hd
  refine lv_aload_n (pc := 0) hx hb dX1_does_0 rfl (lv_at hl 0 rfl) ?_
  refine mg_now (pc := 1) S hK hH dX1_does_1 ?_
  refine lv_bipush (v := (30 : Int32)) (pc := 4) hx hb dX1_does_4 (by decide) ?_
  refine lv_aload_n (pc := 6) hx hb dX1_does_6 rfl (lv_at hl 0 rfl) ?_
  refine mg_now (pc := 7) S hK hH dX1_does_7 ?_
  refine lv_bipush (v := (29 : Int32)) (pc := 10) hx hb dX1_does_10 (by decide) ?_
  obtain ⟨v1, hv1, hd⟩ := bs_bd hd
  refine ml_now (pc := 12) S hK hH hv1 dX1_does_12 ?_
  refine lv_iadd (pc := 13) hx hb dX1_does_13 ?_
  refine lv_iload_n (pc := 14) hx hb dX1_does_14 rfl (lv_at hl 1 rfl) ?_
  obtain ⟨s2, hs2, hd⟩ := bs_bd hd
  refine ms_now (pc := 15) S hK hH hs2 dX1_does_15 (fun H locs hH => ?_)
  refine lv_aload_n (pc := 16) hx hb dX1_does_16 rfl (lv_at hl 0 rfl) ?_
  refine mg_now (pc := 17) S hK hH dX1_does_17 ?_
  refine lv_bipush (v := (29 : Int32)) (pc := 20) hx hb dX1_does_20 (by decide) ?_
  refine lv_dup2_11 (pc := 22) hx hb dX1_does_22 rfl rfl ?_
  obtain ⟨v3, hv3, hd⟩ := bs_bd hd
  refine ml_now (pc := 23) S hK hH hv3 dX1_does_23 ?_
  refine lv_iconst (v := (1 : Int32)) (pc := 24) hx hb dX1_does_24 (by decide) ?_
  refine lv_iadd (pc := 25) hx hb dX1_does_25 ?_
  obtain ⟨s4, hs4, hd⟩ := bs_bd hd
  refine ms_now (pc := 26) S hK hH hs4 dX1_does_26 (fun H locs hH => ?_)
  refine lv_aload_n (pc := 27) hx hb dX1_does_27 rfl (lv_at hl 0 rfl) ?_
  refine mg_now (pc := 28) S hK hH dX1_does_28 ?_
  refine lv_iload_n (pc := 31) hx hb dX1_does_31 rfl (lv_at hl 1 rfl) ?_
  obtain ⟨q5, hq5, hd⟩ := bs_bd hd
  refine call_M_goDeed_now (pc := 32) S hl hK hH q1147 hq5 ⟨Nat.le_of_ble_eq_true rfl, Nat.le_of_ble_eq_true rfl⟩ (Nat.le_of_ble_eq_true rfl) dX1_does_32 ⟨Nat.zero_le _, Nat.zero_le _⟩ (fun H locs hH => ?_)
  exact g_vret (WM ct h) hd S hr hlk hH dX1_does_35
section CR_M_does
variable {p : Program} {l : Launch} {e : Env} {R : Room} {s : State} {m : MethodId} {args : Array Value} {below : List Frame} {meth : Method} {c : Code} {H : Heap} {locs : List Loc} {cells slots : Nat} {Q : State → Prop}
variable {cc : ByteArray} {pc nL idx : Nat} {ls : Array Slot} {rest : List Value} {lv : List (Nat × Value)} {A : Nat → Prop} {H0 : Heap} {own : String}
theorem call_M_does {D : va_G} {ct : Nat → ClassId} {h : Nat → Nat} {st : MS} {a1 : Int32} {z : MS} (S : CallFix p m c cc nL s args lw_all own) (hl : lv_has ls nL lv) (hK : va_K D clA (tysG ct) s) (hH : GH D A (mAs h) H0 (WM ct h st) H locs) (hlk : Cond.methodLink own idx yX1_does ∈ lw_all) (hv : M_does st a1 = some z) (hR : 2 ≤ R.frames ∧ 43 ≤ R.locals) (hsum : (rest.map fun v => v.category).sum ≤ 8) (hdg : decode cc pc = .ok (.invokevirtual idx, 3)) (hf : cells ≤ R.cells ∧ slots ≤ R.slots)
    (k : ∀ (H1 : Heap) (locs1 : List Loc), GH D A (mAs h) H0 (WM ct h z) H1 locs1 → W p l e R s m args below meth c H1 locs1 cells slots Q (F0 m (pc + 3) ls (rest))) : W p l e R s m args below meth c H locs cells slots Q (F0 m pc ls (.int a1 :: .ref (h 0) :: rest)) :=
  g_callv (av := [.int a1]) S hl gE_0_ok trivial hK hH (met_M_does l D ct h H.size st a1 z hv) (lw_V hlk q1145 qs55 q70 q1146) rfl rfl ⟨rfl, by decide, by decide, by show (parseMethodDescriptor yX1_does.desc).map (fun d => d.parameters.length) = some 1; decide +kernel⟩ hR (m_recv hK hH) (fun _ h => Or.inl h) rfl hsum hdg hf k
end CR_M_does
/-! CapCouncilModel.bedsBy (I)I -/
def M_bedsBy_L4 (st : MS) (a1 : Int32) : Nat → Int32 → Int32 → Option Int32
  | 0, _, _ => none
  | n + 1, x2, x3 =>
    (bs_ld (ma st 0) 84 (1 : Int32)).bind fun v1 =>
    if v1 ≤ x3 then
      (some x2)
    else
      ((bs_ld (ma st 0) 84 ((72 : Int32) + x3)).bind fun v3 =>
      (bs_ld (ma st 0) 84 (70 : Int32)).bind fun v4 =>
      (M_ringsAt st v3 a1 v4).bind fun v5 =>
      if v5 = 0 then
        (bs_let (x2 ||| (0 : Int32)) fun w7 =>
        bs_let (x3 + (1 : Int32)) fun w8 =>
        M_bedsBy_L4 st a1 n w7 w8)
      else
        (bs_let (x2 ||| ((1 : Int32) <<< (x3 &&& 31))) fun w9 =>
        bs_let (x3 + (1 : Int32)) fun w10 =>
        M_bedsBy_L4 st a1 n w9 w10))
def M_bedsBy (st : MS) (a1 : Int32) : Option Int32 :=
  M_bedsBy_L4 st a1 bs_fu (0 : Int32) (0 : Int32)
def rm_M_bedsBy : Room := { frames := 4, cells := 0, slots := 0, locals := 98 }
set_option maxHeartbeats 4000000 in
set_option maxRecDepth 100000 in
theorem met_M_bedsBy (l : Launch) (D : va_G) (ct : Nat → ClassId) (h : Nat → Nat) (sz : Nat) (st : MS) (a1 : Int32) (z : Int32) (hd : M_bedsBy st a1 = some z) : Met l yX1_bedsBy (ws_ yX1_bedsBy cX1_bedsBy 4 (some .int)) rm_M_bedsBy (GPre gE_0 D ct (mAs h) (WM ct h st) sz [.ref (h 0), .int a1]) (vp_Si (fun r => r = z)) 0 0 (fun _ => False) := by
  refine g_met (cc := cX1_bedsBy) (maxL := 4) (ret := (some .int)) (by decide) (Nat.le_of_ble_eq_true rfl) ?_
  intro p e U m args below meth c ls S hr hlk hK hH hE hsz hl
  have S : CallFix p m c cX1_bedsBy 4 U args lw_all RX1 := S
  have hx := S.1
  have hb := S.2.1
  have hl : lv_has ls 4 [(0, .ref (h 0)), (1, .int a1)] := hl
  have h4 : ∀ (n4 : Nat) (x2 : Int32) (x3 : Int32) (ls : Array Slot), lv_has ls 4 [(0, .ref (h 0)), (1, .int a1), (2, .int x2), (3, .int x3)] → M_bedsBy_L4 st a1 n4 x2 x3 = some z → W p l e rm_M_bedsBy U m args below meth c U.heap [] 0 0 (MQ below (vp_Si (fun r => r = z)) args U 0 0 (fun _ => False)) (F0 m 4 ls []) := by
    intro n4
    induction n4 with
    | zero =>
      intro x2 x3 ls hl hd
      rw [M_bedsBy_L4] at hd
      cases hd
    | succ n4 ih4 =>
      intro x2 x3 ls hl hd
      rw [M_bedsBy_L4] at hd
      refine lv_iload_n (pc := 4) hx hb dX1_bedsBy_4 rfl (lv_at hl 3 rfl) ?_
      refine lv_aload_n (pc := 5) hx hb dX1_bedsBy_5 rfl (lv_at hl 0 rfl) ?_
      refine mg_now (pc := 6) S hK hH dX1_bedsBy_6 ?_
      refine lv_iconst (v := (1 : Int32)) (pc := 9) hx hb dX1_bedsBy_9 (by decide) ?_
      obtain ⟨v1, hv1, hd⟩ := bs_bd hd
      refine ml_now (pc := 10) S hK hH hv1 dX1_bedsBy_10 ?_
      refine lv_icmp_ge (pc := 11) (tgt := 54) hx hb dX1_bedsBy_11 (by decide) (fun c2 => ?_) (fun c2 => ?_)
      · have hd := if_t c2 hd
        refine lv_iload_n (pc := 54) hx hb dX1_bedsBy_54 rfl (lv_at hl 2 rfl) ?_
        exact r_iret hd S hr hlk dX1_bedsBy_55
      · have hd := if_n c2 hd
        refine lv_iload_n (pc := 14) hx hb dX1_bedsBy_14 rfl (lv_at hl 2 rfl) ?_
        refine lv_aload_n (pc := 15) hx hb dX1_bedsBy_15 rfl (lv_at hl 0 rfl) ?_
        refine lv_aload_n (pc := 16) hx hb dX1_bedsBy_16 rfl (lv_at hl 0 rfl) ?_
        refine mg_now (pc := 17) S hK hH dX1_bedsBy_17 ?_
        refine lv_bipush (v := (72 : Int32)) (pc := 20) hx hb dX1_bedsBy_20 (by decide) ?_
        refine lv_iload_n (pc := 22) hx hb dX1_bedsBy_22 rfl (lv_at hl 3 rfl) ?_
        refine lv_iadd (pc := 23) hx hb dX1_bedsBy_23 ?_
        obtain ⟨v3, hv3, hd⟩ := bs_bd hd
        refine ml_now (pc := 24) S hK hH hv3 dX1_bedsBy_24 ?_
        refine lv_iload_n (pc := 25) hx hb dX1_bedsBy_25 rfl (lv_at hl 1 rfl) ?_
        refine lv_aload_n (pc := 26) hx hb dX1_bedsBy_26 rfl (lv_at hl 0 rfl) ?_
        refine mg_now (pc := 27) S hK hH dX1_bedsBy_27 ?_
        refine lv_bipush (v := (70 : Int32)) (pc := 30) hx hb dX1_bedsBy_30 (by decide) ?_
        obtain ⟨v4, hv4, hd⟩ := bs_bd hd
        refine ml_now (pc := 32) S hK hH hv4 dX1_bedsBy_32 ?_
        obtain ⟨v5, hv5, hd⟩ := bs_bd hd
        refine call_M_ringsAt (pc := 33) S hl hK hH q1116 hv5 ⟨Nat.le_of_ble_eq_true rfl, Nat.le_of_ble_eq_true rfl⟩ (Nat.le_of_ble_eq_true rfl) dX1_bedsBy_33 ⟨Nat.zero_le _, Nat.zero_le _⟩ ?_
        refine lv_if_eq (pc := 36) (tgt := 45) hx hb dX1_bedsBy_36 (by decide) (fun c6 => ?_) (fun c6 => ?_)
        · have hd := if_t c6 hd
          refine lv_iconst (v := (0 : Int32)) (pc := 45) hx hb dX1_bedsBy_45 (by decide) ?_
          refine lv_ior (pc := 46) hx hb dX1_bedsBy_46 ?_
          obtain ⟨w7, ew7, hd⟩ := bs_let_spec hd
          refine lv_topE (pc := 47) ew7 ?_
          refine lv_istore_n (pc := 47) (lv' := [(2, .int w7), (0, .ref (h 0)), (1, .int a1), (3, .int x3)]) hx hb dX1_bedsBy_47 rfl hl (by decide) rfl (fun ls hl => ?_)
          obtain ⟨w8, ew8, hd⟩ := bs_let_spec hd
          refine lv_iinc (pc := 48) (v := w8) (lv' := [(3, .int w8), (2, .int w7), (0, .ref (h 0)), (1, .int a1)]) hx hb dX1_bedsBy_48 hl (k := 3) rfl (by rw [ew8]; rfl) (by decide) rfl (fun ls hl => ?_)
          refine lv_goto (pc := 51) (tgt := 4) hx hb dX1_bedsBy_51 (by decide) ?_
          exact ih4 w7 w8 _ (lv_sub hl [2, 3, 1, 0] rfl) hd
        · have hd := if_n c6 hd
          refine lv_iconst (v := (1 : Int32)) (pc := 39) hx hb dX1_bedsBy_39 (by decide) ?_
          refine lv_iload_n (pc := 40) hx hb dX1_bedsBy_40 rfl (lv_at hl 3 rfl) ?_
          refine lv_ishl (pc := 41) hx hb dX1_bedsBy_41 ?_
          refine lv_goto (pc := 42) (tgt := 46) hx hb dX1_bedsBy_42 (by decide) ?_
          refine lv_ior (pc := 46) hx hb dX1_bedsBy_46 ?_
          obtain ⟨w9, ew9, hd⟩ := bs_let_spec hd
          refine lv_topE (pc := 47) ew9 ?_
          refine lv_istore_n (pc := 47) (lv' := [(2, .int w9), (0, .ref (h 0)), (1, .int a1), (3, .int x3)]) hx hb dX1_bedsBy_47 rfl hl (by decide) rfl (fun ls hl => ?_)
          obtain ⟨w10, ew10, hd⟩ := bs_let_spec hd
          refine lv_iinc (pc := 48) (v := w10) (lv' := [(3, .int w10), (2, .int w9), (0, .ref (h 0)), (1, .int a1)]) hx hb dX1_bedsBy_48 hl (k := 3) rfl (by rw [ew10]; rfl) (by decide) rfl (fun ls hl => ?_)
          refine lv_goto (pc := 51) (tgt := 4) hx hb dX1_bedsBy_51 (by decide) ?_
          exact ih4 w9 w10 _ (lv_sub hl [2, 3, 1, 0] rfl) hd
  unfold M_bedsBy at hd
  refine lv_iconst (v := (0 : Int32)) (pc := 0) hx hb dX1_bedsBy_0 (by decide) ?_
  refine lv_istore_n (pc := 1) (lv' := [(2, .int (0 : Int32)), (0, .ref (h 0)), (1, .int a1)]) hx hb dX1_bedsBy_1 rfl hl (by decide) rfl (fun ls hl => ?_)
  refine lv_iconst (v := (0 : Int32)) (pc := 2) hx hb dX1_bedsBy_2 (by decide) ?_
  refine lv_istore_n (pc := 3) (lv' := [(3, .int (0 : Int32)), (2, .int (0 : Int32)), (0, .ref (h 0)), (1, .int a1)]) hx hb dX1_bedsBy_3 rfl hl (by decide) rfl (fun ls hl => ?_)
  exact h4 bs_fu (0 : Int32) (0 : Int32) _ (lv_sub hl [2, 3, 1, 0] rfl) hd
section CR_M_bedsBy
variable {p : Program} {l : Launch} {e : Env} {R : Room} {s : State} {m : MethodId} {args : Array Value} {below : List Frame} {meth : Method} {c : Code} {H : Heap} {locs : List Loc} {cells slots : Nat} {Q : State → Prop}
variable {cc : ByteArray} {pc nL idx : Nat} {ls : Array Slot} {rest : List Value} {lv : List (Nat × Value)} {A : Nat → Prop} {H0 : Heap} {own : String}
theorem call_M_bedsBy {D : va_G} {ct : Nat → ClassId} {h : Nat → Nat} {st : MS} {a1 : Int32} {z : Int32} (S : CallFix p m c cc nL s args lw_all own) (hl : lv_has ls nL lv) (hK : va_K D clA (tysG ct) s) (hH : GH D A (mAs h) H0 (WM ct h st) H locs) (hlk : Cond.methodLink own idx yX1_bedsBy ∈ lw_all) (hv : M_bedsBy st a1 = some z) (hR : 5 ≤ R.frames ∧ 121 ≤ R.locals) (hsum : (rest.map fun v => v.category).sum ≤ 8) (hdg : decode cc pc = .ok (.invokevirtual idx, 3)) (hf : cells ≤ R.cells ∧ slots ≤ R.slots)
    (k : W p l e R s m args below meth c H locs cells slots Q (F0 m (pc + 3) ls (.int z :: rest))) : W p l e R s m args below meth c H locs cells slots Q (F0 m pc ls (.int a1 :: .ref (h 0) :: rest)) :=
  r_calli (av := [.int a1]) S hl gE_0_ok trivial hK hH (met_M_bedsBy l D ct h H.size st a1 z hv) (lw_V hlk q1156 qs57 q70 q1157) rfl rfl ⟨rfl, by decide, by decide, by show (parseMethodDescriptor yX1_bedsBy.desc).map (fun d => d.parameters.length) = some 1; decide +kernel⟩ hR (m_recv hK hH) rfl hsum hdg hf k
end CR_M_bedsBy
/-! CapCouncilModel.bits (I)I -/
def M_bits_L4 (a0 : Int32) : Nat → Int32 → Int32 → Option Int32
  | 0, _, _ => none
  | n + 1, x1, x2 =>
    if x2 ≤ 0 then
      (some x1)
    else
      (bs_let (x1 + (x2 &&& (1 : Int32))) fun w2 =>
      bs_let (x2 >>> ((1 : Int32) &&& 31)) fun w3 =>
      M_bits_L4 a0 n w2 w3)
def M_bits (a0 : Int32) : Option Int32 :=
  M_bits_L4 a0 bs_fu (0 : Int32) a0
def rm_M_bits : Room := { frames := 0, cells := 0, slots := 0, locals := 0 }
set_option maxHeartbeats 4000000 in
set_option maxRecDepth 100000 in
theorem met_M_bits (l : Launch) (a0 : Int32) (z : Int32) (hd : M_bits a0 = some z) : Met l yX1_bits (ws_ yX1_bits cX1_bits 3 (some .int)) rm_M_bits (va_Pc [.int a0] (fun _ => True)) (vp_Si (fun r => r = z)) 0 0 (fun _ => False) := by
  refine p_met (cc := cX1_bits) (maxL := 3) (ret := (some .int)) (by decide) (Nat.le_of_ble_eq_true rfl) ?_
  intro p e U m args below meth c ls S hr hlk hl
  have S : CallFix p m c cX1_bits 3 U args lw_all RX1 := S
  have hx := S.1
  have hb := S.2.1
  have hl : lv_has ls 3 [(0, .int a0)] := hl
  have h4 : ∀ (n4 : Nat) (x1 : Int32) (x2 : Int32) (ls : Array Slot), lv_has ls 3 [(0, .int a0), (1, .int x1), (2, .int x2)] → M_bits_L4 a0 n4 x1 x2 = some z → W p l e rm_M_bits U m args below meth c U.heap [] 0 0 (MQ below (vp_Si (fun r => r = z)) args U 0 0 (fun _ => False)) (F0 m 4 ls []) := by
    intro n4
    induction n4 with
    | zero =>
      intro x1 x2 ls hl hd
      rw [M_bits_L4] at hd
      cases hd
    | succ n4 ih4 =>
      intro x1 x2 ls hl hd
      rw [M_bits_L4] at hd
      refine lv_iload_n (pc := 4) hx hb dX1_bits_4 rfl (lv_at hl 2 rfl) ?_
      refine lv_if_le (pc := 5) (tgt := 21) hx hb dX1_bits_5 (by decide) (fun c1 => ?_) (fun c1 => ?_)
      · have hd := if_t c1 hd
        refine lv_iload_n (pc := 21) hx hb dX1_bits_21 rfl (lv_at hl 1 rfl) ?_
        exact r_iret hd S hr hlk dX1_bits_22
      · have hd := if_n c1 hd
        refine lv_iload_n (pc := 8) hx hb dX1_bits_8 rfl (lv_at hl 1 rfl) ?_
        refine lv_iload_n (pc := 9) hx hb dX1_bits_9 rfl (lv_at hl 2 rfl) ?_
        refine lv_iconst (v := (1 : Int32)) (pc := 10) hx hb dX1_bits_10 (by decide) ?_
        refine lv_iand (pc := 11) hx hb dX1_bits_11 ?_
        refine lv_iadd (pc := 12) hx hb dX1_bits_12 ?_
        obtain ⟨w2, ew2, hd⟩ := bs_let_spec hd
        refine lv_topE (pc := 13) ew2 ?_
        refine lv_istore_n (pc := 13) (lv' := [(1, .int w2), (0, .int a0), (2, .int x2)]) hx hb dX1_bits_13 rfl hl (by decide) rfl (fun ls hl => ?_)
        refine lv_iload_n (pc := 14) hx hb dX1_bits_14 rfl (lv_at hl 2 rfl) ?_
        refine lv_iconst (v := (1 : Int32)) (pc := 15) hx hb dX1_bits_15 (by decide) ?_
        refine lv_ishr (pc := 16) hx hb dX1_bits_16 ?_
        obtain ⟨w3, ew3, hd⟩ := bs_let_spec hd
        refine lv_topE (pc := 17) ew3 ?_
        refine lv_istore_n (pc := 17) (lv' := [(2, .int w3), (1, .int w2), (0, .int a0)]) hx hb dX1_bits_17 rfl hl (by decide) rfl (fun ls hl => ?_)
        refine lv_goto (pc := 18) (tgt := 4) hx hb dX1_bits_18 (by decide) ?_
        exact ih4 w2 w3 _ (lv_sub hl [2, 1, 0] rfl) hd
  unfold M_bits at hd
  refine lv_iconst (v := (0 : Int32)) (pc := 0) hx hb dX1_bits_0 (by decide) ?_
  refine lv_istore_n (pc := 1) (lv' := [(1, .int (0 : Int32)), (0, .int a0)]) hx hb dX1_bits_1 rfl hl (by decide) rfl (fun ls hl => ?_)
  refine lv_iload_n (pc := 2) hx hb dX1_bits_2 rfl (lv_at hl 1 rfl) ?_
  refine lv_istore_n (pc := 3) (lv' := [(2, .int a0), (1, .int (0 : Int32)), (0, .int a0)]) hx hb dX1_bits_3 rfl hl (by decide) rfl (fun ls hl => ?_)
  exact h4 bs_fu (0 : Int32) a0 _ (lv_sub hl [2, 1, 0] rfl) hd
section CR_M_bits
variable {p : Program} {l : Launch} {e : Env} {R : Room} {s : State} {m : MethodId} {args : Array Value} {below : List Frame} {meth : Method} {c : Code} {H : Heap} {locs : List Loc} {cells slots : Nat} {Q : State → Prop}
variable {cc : ByteArray} {pc nL idx : Nat} {ls : Array Slot} {rest : List Value} {lv : List (Nat × Value)} {A : Nat → Prop} {H0 : Heap} {own : String}
theorem call_M_bits {a0 : Int32} {z : Int32} (S : CallFix p m c cc nL s args lw_all own) (hl : lv_has ls nL lv) (hlk : Cond.methodLink own idx yX1_bits ∈ lw_all) (hv : M_bits a0 = some z) (hR : 1 ≤ R.frames ∧ 22 ≤ R.locals) (hsum : (rest.map fun v => v.category).sum ≤ 8) (hdg : decode cc pc = .ok (.invokestatic idx, 3)) (hf : cells ≤ R.cells ∧ slots ≤ R.slots)
    (k : W p l e R s m args below meth c H locs cells slots Q (F0 m (pc + 3) ls (.int z :: rest))) : W p l e R s m args below meth c H locs cells slots Q (F0 m pc ls (.int a0 :: rest)) :=
  p_calli (av := [.int a0]) S hl (met_M_bits l a0 z hv) (lw_S hlk q1159 q70 q1160) rfl rfl ⟨by decide, by decide, by show (parseMethodDescriptor yX1_bits.desc).map (fun d => d.parameters.length) = some 1; decide +kernel⟩ hR rfl hsum hdg hf k
end CR_M_bits
/-! CapCouncilModel.seated ()I -/
def M_seated (st : MS) : Option Int32 :=
  (bs_ld (ma st 0) 84 (71 : Int32)).bind fun v1 =>
  (M_bedsBy st v1).bind fun v2 =>
  (M_bits v2).bind fun v3 =>
  some v3
def rm_M_seated : Room := { frames := 5, cells := 0, slots := 0, locals := 121 }
set_option maxHeartbeats 4000000 in
set_option maxRecDepth 100000 in
theorem met_M_seated (l : Launch) (D : va_G) (ct : Nat → ClassId) (h : Nat → Nat) (sz : Nat) (st : MS) (z : Int32) (hd : M_seated st = some z) : Met l yX1_seated (ws_ yX1_seated cX1_seated 1 (some .int)) rm_M_seated (GPre gE_0 D ct (mAs h) (WM ct h st) sz [.ref (h 0)]) (vp_Si (fun r => r = z)) 0 0 (fun _ => False) := by
  refine g_met (cc := cX1_seated) (maxL := 1) (ret := (some .int)) (by decide) (Nat.le_of_ble_eq_true rfl) ?_
  intro p e U m args below meth c ls S hr hlk hK hH hE hsz hl
  have S : CallFix p m c cX1_seated 1 U args lw_all RX1 := S
  have hx := S.1
  have hb := S.2.1
  have hl : lv_has ls 1 [(0, .ref (h 0))] := hl
  unfold M_seated at hd
  refine lv_aload_n (pc := 0) hx hb dX1_seated_0 rfl (lv_at hl 0 rfl) ?_
  refine lv_aload_n (pc := 1) hx hb dX1_seated_1 rfl (lv_at hl 0 rfl) ?_
  refine mg_now (pc := 2) S hK hH dX1_seated_2 ?_
  refine lv_bipush (v := (71 : Int32)) (pc := 5) hx hb dX1_seated_5 (by decide) ?_
  obtain ⟨v1, hv1, hd⟩ := bs_bd hd
  refine ml_now (pc := 7) S hK hH hv1 dX1_seated_7 ?_
  obtain ⟨v2, hv2, hd⟩ := bs_bd hd
  refine call_M_bedsBy (pc := 8) S hl hK hH q1154 hv2 ⟨Nat.le_of_ble_eq_true rfl, Nat.le_of_ble_eq_true rfl⟩ (Nat.le_of_ble_eq_true rfl) dX1_seated_8 ⟨Nat.zero_le _, Nat.zero_le _⟩ ?_
  obtain ⟨v3, hv3, hd⟩ := bs_bd hd
  refine call_M_bits (pc := 11) S hl q1158 hv3 ⟨Nat.le_of_ble_eq_true rfl, Nat.le_of_ble_eq_true rfl⟩ (Nat.le_of_ble_eq_true rfl) dX1_seated_11 ⟨Nat.zero_le _, Nat.zero_le _⟩ ?_
  exact r_iret hd S hr hlk dX1_seated_14
section CR_M_seated
variable {p : Program} {l : Launch} {e : Env} {R : Room} {s : State} {m : MethodId} {args : Array Value} {below : List Frame} {meth : Method} {c : Code} {H : Heap} {locs : List Loc} {cells slots : Nat} {Q : State → Prop}
variable {cc : ByteArray} {pc nL idx : Nat} {ls : Array Slot} {rest : List Value} {lv : List (Nat × Value)} {A : Nat → Prop} {H0 : Heap} {own : String}
theorem call_M_seated {D : va_G} {ct : Nat → ClassId} {h : Nat → Nat} {st : MS} {z : Int32} (S : CallFix p m c cc nL s args lw_all own) (hl : lv_has ls nL lv) (hK : va_K D clA (tysG ct) s) (hH : GH D A (mAs h) H0 (WM ct h st) H locs) (hlk : Cond.methodLink own idx yX1_seated ∈ lw_all) (hv : M_seated st = some z) (hR : 6 ≤ R.frames ∧ 141 ≤ R.locals) (hsum : (rest.map fun v => v.category).sum ≤ 8) (hdg : decode cc pc = .ok (.invokevirtual idx, 3)) (hf : cells ≤ R.cells ∧ slots ≤ R.slots)
    (k : W p l e R s m args below meth c H locs cells slots Q (F0 m (pc + 3) ls (.int z :: rest))) : W p l e R s m args below meth c H locs cells slots Q (F0 m pc ls (.ref (h 0) :: rest)) :=
  r_calli (av := []) S hl gE_0_ok trivial hK hH (met_M_seated l D ct h H.size st z hv) (lw_V hlk q1152 qs56 q70 q1153) rfl rfl ⟨rfl, by decide, by decide, by show (parseMethodDescriptor yX1_seated.desc).map (fun d => d.parameters.length) = some 0; decide +kernel⟩ hR (m_recv hK hH) rfl hsum hdg hf k
end CR_M_seated
/-! CapCouncilModel.year ()I -/
def M_year (st : MS) : Option (MS × Int32) :=
  (bs_ld (ma st 0) 84 (0 : Int32)).bind fun v1 =>
  if v1 = 0 then
    (some (st, (-4 : Int32)))
  else
    ((bs_ld (ma st 0) 84 (70 : Int32)).bind fun v3 =>
    if v3 = (40 : Int32) then
      (some (st, (-4 : Int32)))
    else
      ((bs_ld (ma st 0) 84 (29 : Int32)).bind fun v5 =>
      if v5 = (40 : Int32) then
        (some (st, (-2 : Int32)))
      else
        ((M_does st (0 : Int32)).bind fun q7 =>
        (M_seated q7).bind fun v8 =>
        some (q7, v8))))
def rm_M_year : Room := { frames := 6, cells := 0, slots := 0, locals := 141 }
set_option maxHeartbeats 4000000 in
set_option maxRecDepth 100000 in
theorem met_M_year (l : Launch) (D : va_G) (ct : Nat → ClassId) (h : Nat → Nat) (sz : Nat) (st : MS) (z : (MS × Int32)) (hd : M_year st = some z) : Met l yX1_year (ws_ yX1_year cX1_year 1 (some .int)) rm_M_year (GPre gE_0 D ct (mAs h) (WM ct h st) sz [.ref (h 0)]) (GQi D (mAs h) (mAs h) (WM ct h z.1) sz z.2) 0 0 (gA (mAs h) sz) := by
  refine g_met (cc := cX1_year) (maxL := 1) (ret := (some .int)) (by decide) (Nat.le_of_ble_eq_true rfl) ?_
  intro p e U m args below meth c ls S hr hlk hK hH hE hsz hl
  have S : CallFix p m c cX1_year 1 U args lw_all RX1 := S
  have hx := S.1
  have hb := S.2.1
  have hl : lv_has ls 1 [(0, .ref (h 0))] := hl
  unfold M_year at hd
  refine lv_aload_n (pc := 0) hx hb dX1_year_0 rfl (lv_at hl 0 rfl) ?_
  refine mg_now (pc := 1) S hK hH dX1_year_1 ?_
  refine lv_iconst (v := (0 : Int32)) (pc := 4) hx hb dX1_year_4 (by decide) ?_
  obtain ⟨v1, hv1, hd⟩ := bs_bd hd
  refine ml_now (pc := 5) S hK hH hv1 dX1_year_5 ?_
  refine lv_if_eq (pc := 6) (tgt := 21) hx hb dX1_year_6 (by decide) (fun c2 => ?_) (fun c2 => ?_)
  · have hd := if_t c2 hd
    refine lv_bipush (v := (-4 : Int32)) (pc := 21) hx hb dX1_year_21 (by decide) ?_
    exact g_iret (WM ct h) hd S hr hlk hH dX1_year_23
  · have hd := if_n c2 hd
    refine lv_aload_n (pc := 9) hx hb dX1_year_9 rfl (lv_at hl 0 rfl) ?_
    refine mg_now (pc := 10) S hK hH dX1_year_10 ?_
    refine lv_bipush (v := (70 : Int32)) (pc := 13) hx hb dX1_year_13 (by decide) ?_
    obtain ⟨v3, hv3, hd⟩ := bs_bd hd
    refine ml_now (pc := 15) S hK hH hv3 dX1_year_15 ?_
    refine lv_bipush (v := (40 : Int32)) (pc := 16) hx hb dX1_year_16 (by decide) ?_
    refine lv_icmp_ne (pc := 18) (tgt := 24) hx hb dX1_year_18 (by decide) (fun c4 => ?_) (fun c4 => ?_)
    · have hd := if_n c4 hd
      refine lv_aload_n (pc := 24) hx hb dX1_year_24 rfl (lv_at hl 0 rfl) ?_
      refine mg_now (pc := 25) S hK hH dX1_year_25 ?_
      refine lv_bipush (v := (29 : Int32)) (pc := 28) hx hb dX1_year_28 (by decide) ?_
      obtain ⟨v5, hv5, hd⟩ := bs_bd hd
      refine ml_now (pc := 30) S hK hH hv5 dX1_year_30 ?_
      refine lv_bipush (v := (40 : Int32)) (pc := 31) hx hb dX1_year_31 (by decide) ?_
      refine lv_icmp_ne (pc := 33) (tgt := 39) hx hb dX1_year_33 (by decide) (fun c6 => ?_) (fun c6 => ?_)
      · have hd := if_n c6 hd
        refine lv_aload_n (pc := 39) hx hb dX1_year_39 rfl (lv_at hl 0 rfl) ?_
        refine lv_iconst (v := (0 : Int32)) (pc := 40) hx hb dX1_year_40 (by decide) ?_
        obtain ⟨q7, hq7, hd⟩ := bs_bd hd
        refine call_M_does (pc := 41) S hl hK hH q1143 hq7 ⟨Nat.le_of_ble_eq_true rfl, Nat.le_of_ble_eq_true rfl⟩ (Nat.le_of_ble_eq_true rfl) dX1_year_41 ⟨Nat.zero_le _, Nat.zero_le _⟩ (fun H locs hH => ?_)
        refine lv_aload_n (pc := 44) hx hb dX1_year_44 rfl (lv_at hl 0 rfl) ?_
        obtain ⟨v8, hv8, hd⟩ := bs_bd hd
        refine call_M_seated (pc := 45) S hl hK hH q1150 hv8 ⟨Nat.le_of_ble_eq_true rfl, Nat.le_of_ble_eq_true rfl⟩ (Nat.le_of_ble_eq_true rfl) dX1_year_45 ⟨Nat.zero_le _, Nat.zero_le _⟩ ?_
        exact g_iret (WM ct h) hd S hr hlk hH dX1_year_48
      · have hd := if_t c6 hd
        refine lv_bipush (v := (-2 : Int32)) (pc := 36) hx hb dX1_year_36 (by decide) ?_
        exact g_iret (WM ct h) hd S hr hlk hH dX1_year_38
    · have hd := if_t c4 hd
      refine lv_bipush (v := (-4 : Int32)) (pc := 21) hx hb dX1_year_21 (by decide) ?_
      exact g_iret (WM ct h) hd S hr hlk hH dX1_year_23
section CR_M_year
variable {p : Program} {l : Launch} {e : Env} {R : Room} {s : State} {m : MethodId} {args : Array Value} {below : List Frame} {meth : Method} {c : Code} {H : Heap} {locs : List Loc} {cells slots : Nat} {Q : State → Prop}
variable {cc : ByteArray} {pc nL idx : Nat} {ls : Array Slot} {rest : List Value} {lv : List (Nat × Value)} {A : Nat → Prop} {H0 : Heap} {own : String}
theorem call_M_year {D : va_G} {ct : Nat → ClassId} {h : Nat → Nat} {st : MS} {z : (MS × Int32)} (S : CallFix p m c cc nL s args lw_all own) (hl : lv_has ls nL lv) (hK : va_K D clA (tysG ct) s) (hH : GH D A (mAs h) H0 (WM ct h st) H locs) (hlk : Cond.methodLink own idx yX1_year ∈ lw_all) (hv : M_year st = some z) (hR : 7 ≤ R.frames ∧ 161 ≤ R.locals) (hsum : (rest.map fun v => v.category).sum ≤ 8) (hdg : decode cc pc = .ok (.invokevirtual idx, 3)) (hf : cells ≤ R.cells ∧ slots ≤ R.slots)
    (k : ∀ (H1 : Heap) (locs1 : List Loc), GH D A (mAs h) H0 (WM ct h z.1) H1 locs1 → W p l e R s m args below meth c H1 locs1 cells slots Q (F0 m (pc + 3) ls (.int z.2 :: rest))) : W p l e R s m args below meth c H locs cells slots Q (F0 m pc ls (.ref (h 0) :: rest)) :=
  g_calli (av := []) S hl gE_0_ok trivial hK hH (met_M_year l D ct h H.size st z hv) (lw_V hlk q1140 q1141 q70 q1142) rfl rfl ⟨rfl, by decide, by decide, by show (parseMethodDescriptor yX1_year.desc).map (fun d => d.parameters.length) = some 0; decide +kernel⟩ hR (m_recv hK hH) (fun _ h => Or.inl h) rfl hsum hdg hf k
end CR_M_year
/-! CapCouncilModel.move (II)I -/
def M_move (st : MS) (a1 : Int32) (a2 : Int32) : Option (MS × Int32) :=
  (M_isBed st a1).bind fun v1 =>
  if v1 = 0 then
    (some (st, (-1 : Int32)))
  else
    ((M_isPlace a2).bind fun v3 =>
    if v3 = 0 then
      (some (st, (-1 : Int32)))
    else
      ((bs_ld (ma st 0) 84 ((72 : Int32) + a1)).bind fun v5 =>
      if v5 = a2 then
        (some (st, (-4 : Int32)))
      else
        ((bs_ld (ma st 0) 84 (29 : Int32)).bind fun v7 =>
        if v7 = (40 : Int32) then
          (some (st, (-2 : Int32)))
        else
          ((M_does st (((1000 : Int32) + ((100 : Int32) * a1)) + a2)).bind fun q9 =>
          (M_ringsOf q9 a1).bind fun v10 =>
          some (q9, v10)))))
def rm_M_move : Room := { frames := 5, cells := 0, slots := 0, locals := 119 }
set_option maxHeartbeats 4000000 in
set_option maxRecDepth 100000 in
theorem met_M_move (l : Launch) (D : va_G) (ct : Nat → ClassId) (h : Nat → Nat) (sz : Nat) (st : MS) (a1 : Int32) (a2 : Int32) (z : (MS × Int32)) (hd : M_move st a1 a2 = some z) : Met l yX1_move (ws_ yX1_move cX1_move 3 (some .int)) rm_M_move (GPre gE_0 D ct (mAs h) (WM ct h st) sz [.ref (h 0), .int a1, .int a2]) (GQi D (mAs h) (mAs h) (WM ct h z.1) sz z.2) 0 0 (gA (mAs h) sz) := by
  refine g_met (cc := cX1_move) (maxL := 3) (ret := (some .int)) (by decide) (Nat.le_of_ble_eq_true rfl) ?_
  intro p e U m args below meth c ls S hr hlk hK hH hE hsz hl
  have S : CallFix p m c cX1_move 3 U args lw_all RX1 := S
  have hx := S.1
  have hb := S.2.1
  have hl : lv_has ls 3 [(0, .ref (h 0)), (1, .int a1), (2, .int a2)] := hl
  unfold M_move at hd
  refine lv_aload_n (pc := 0) hx hb dX1_move_0 rfl (lv_at hl 0 rfl) ?_
  refine lv_iload_n (pc := 1) hx hb dX1_move_1 rfl (lv_at hl 1 rfl) ?_
  obtain ⟨v1, hv1, hd⟩ := bs_bd hd
  refine call_M_isBed (pc := 2) S hl hK hH q1103 hv1 ⟨Nat.le_of_ble_eq_true rfl, Nat.le_of_ble_eq_true rfl⟩ (Nat.le_of_ble_eq_true rfl) dX1_move_2 ⟨Nat.zero_le _, Nat.zero_le _⟩ ?_
  refine lv_if_eq (pc := 5) (tgt := 15) hx hb dX1_move_5 (by decide) (fun c2 => ?_) (fun c2 => ?_)
  · have hd := if_t c2 hd
    refine lv_iconst (v := (-1 : Int32)) (pc := 15) hx hb dX1_move_15 (by decide) ?_
    exact g_iret (WM ct h) hd S hr hlk hH dX1_move_16
  · have hd := if_n c2 hd
    refine lv_iload_n (pc := 8) hx hb dX1_move_8 rfl (lv_at hl 2 rfl) ?_
    obtain ⟨v3, hv3, hd⟩ := bs_bd hd
    refine call_M_isPlace (pc := 9) S hl q1135 hv3 ⟨Nat.le_of_ble_eq_true rfl, Nat.le_of_ble_eq_true rfl⟩ (Nat.le_of_ble_eq_true rfl) dX1_move_9 ⟨Nat.zero_le _, Nat.zero_le _⟩ ?_
    refine lv_if_ne (pc := 12) (tgt := 17) hx hb dX1_move_12 (by decide) (fun c4 => ?_) (fun c4 => ?_)
    · have hd := if_n c4 hd
      refine lv_aload_n (pc := 17) hx hb dX1_move_17 rfl (lv_at hl 0 rfl) ?_
      refine mg_now (pc := 18) S hK hH dX1_move_18 ?_
      refine lv_bipush (v := (72 : Int32)) (pc := 21) hx hb dX1_move_21 (by decide) ?_
      refine lv_iload_n (pc := 23) hx hb dX1_move_23 rfl (lv_at hl 1 rfl) ?_
      refine lv_iadd (pc := 24) hx hb dX1_move_24 ?_
      obtain ⟨v5, hv5, hd⟩ := bs_bd hd
      refine ml_now (pc := 25) S hK hH hv5 dX1_move_25 ?_
      refine lv_iload_n (pc := 26) hx hb dX1_move_26 rfl (lv_at hl 2 rfl) ?_
      refine lv_icmp_ne (pc := 27) (tgt := 33) hx hb dX1_move_27 (by decide) (fun c6 => ?_) (fun c6 => ?_)
      · have hd := if_n c6 hd
        refine lv_aload_n (pc := 33) hx hb dX1_move_33 rfl (lv_at hl 0 rfl) ?_
        refine mg_now (pc := 34) S hK hH dX1_move_34 ?_
        refine lv_bipush (v := (29 : Int32)) (pc := 37) hx hb dX1_move_37 (by decide) ?_
        obtain ⟨v7, hv7, hd⟩ := bs_bd hd
        refine ml_now (pc := 39) S hK hH hv7 dX1_move_39 ?_
        refine lv_bipush (v := (40 : Int32)) (pc := 40) hx hb dX1_move_40 (by decide) ?_
        refine lv_icmp_ne (pc := 42) (tgt := 48) hx hb dX1_move_42 (by decide) (fun c8 => ?_) (fun c8 => ?_)
        · have hd := if_n c8 hd
          refine lv_aload_n (pc := 48) hx hb dX1_move_48 rfl (lv_at hl 0 rfl) ?_
          refine lv_sipush (v := (1000 : Int32)) (pc := 49) hx hb dX1_move_49 (by decide) ?_
          refine lv_bipush (v := (100 : Int32)) (pc := 52) hx hb dX1_move_52 (by decide) ?_
          refine lv_iload_n (pc := 54) hx hb dX1_move_54 rfl (lv_at hl 1 rfl) ?_
          refine lv_imul (pc := 55) hx hb dX1_move_55 ?_
          refine lv_iadd (pc := 56) hx hb dX1_move_56 ?_
          refine lv_iload_n (pc := 57) hx hb dX1_move_57 rfl (lv_at hl 2 rfl) ?_
          refine lv_iadd (pc := 58) hx hb dX1_move_58 ?_
          obtain ⟨q9, hq9, hd⟩ := bs_bd hd
          refine call_M_does (pc := 59) S hl hK hH q1143 hq9 ⟨Nat.le_of_ble_eq_true rfl, Nat.le_of_ble_eq_true rfl⟩ (Nat.le_of_ble_eq_true rfl) dX1_move_59 ⟨Nat.zero_le _, Nat.zero_le _⟩ (fun H locs hH => ?_)
          refine lv_aload_n (pc := 62) hx hb dX1_move_62 rfl (lv_at hl 0 rfl) ?_
          refine lv_iload_n (pc := 63) hx hb dX1_move_63 rfl (lv_at hl 1 rfl) ?_
          obtain ⟨v10, hv10, hd⟩ := bs_bd hd
          refine call_M_ringsOf (pc := 64) S hl hK hH q1112 hv10 ⟨Nat.le_of_ble_eq_true rfl, Nat.le_of_ble_eq_true rfl⟩ (Nat.le_of_ble_eq_true rfl) dX1_move_64 ⟨Nat.zero_le _, Nat.zero_le _⟩ ?_
          exact g_iret (WM ct h) hd S hr hlk hH dX1_move_67
        · have hd := if_t c8 hd
          refine lv_bipush (v := (-2 : Int32)) (pc := 45) hx hb dX1_move_45 (by decide) ?_
          exact g_iret (WM ct h) hd S hr hlk hH dX1_move_47
      · have hd := if_t c6 hd
        refine lv_bipush (v := (-4 : Int32)) (pc := 30) hx hb dX1_move_30 (by decide) ?_
        exact g_iret (WM ct h) hd S hr hlk hH dX1_move_32
    · have hd := if_t c4 hd
      refine lv_iconst (v := (-1 : Int32)) (pc := 15) hx hb dX1_move_15 (by decide) ?_
      exact g_iret (WM ct h) hd S hr hlk hH dX1_move_16
section CR_M_move
variable {p : Program} {l : Launch} {e : Env} {R : Room} {s : State} {m : MethodId} {args : Array Value} {below : List Frame} {meth : Method} {c : Code} {H : Heap} {locs : List Loc} {cells slots : Nat} {Q : State → Prop}
variable {cc : ByteArray} {pc nL idx : Nat} {ls : Array Slot} {rest : List Value} {lv : List (Nat × Value)} {A : Nat → Prop} {H0 : Heap} {own : String}
theorem call_M_move {D : va_G} {ct : Nat → ClassId} {h : Nat → Nat} {st : MS} {a1 : Int32} {a2 : Int32} {z : (MS × Int32)} (S : CallFix p m c cc nL s args lw_all own) (hl : lv_has ls nL lv) (hK : va_K D clA (tysG ct) s) (hH : GH D A (mAs h) H0 (WM ct h st) H locs) (hlk : Cond.methodLink own idx yX1_move ∈ lw_all) (hv : M_move st a1 a2 = some z) (hR : 6 ≤ R.frames ∧ 141 ≤ R.locals) (hsum : (rest.map fun v => v.category).sum ≤ 8) (hdg : decode cc pc = .ok (.invokevirtual idx, 3)) (hf : cells ≤ R.cells ∧ slots ≤ R.slots)
    (k : ∀ (H1 : Heap) (locs1 : List Loc), GH D A (mAs h) H0 (WM ct h z.1) H1 locs1 → W p l e R s m args below meth c H1 locs1 cells slots Q (F0 m (pc + 3) ls (.int z.2 :: rest))) : W p l e R s m args below meth c H locs cells slots Q (F0 m pc ls (.int a2 :: .int a1 :: .ref (h 0) :: rest)) :=
  g_calli (av := [.int a1, .int a2]) S hl gE_0_ok trivial hK hH (met_M_move l D ct h H.size st a1 a2 z hv) (lw_V hlk q1162 q1163 q70 q1164) rfl rfl ⟨rfl, by decide, by decide, by show (parseMethodDescriptor yX1_move.desc).map (fun d => d.parameters.length) = some 2; decide +kernel⟩ hR (m_recv hK hH) (fun _ h => Or.inl h) rfl hsum hdg hf k
end CR_M_move
/-! CapCouncilModel.turn (IZI)I -/
def M_turn (st : MS) (a1 : Int32) (a2 : Int32) (a3 : Int32) : Option (MS × Int32) :=
  (M_isRing st a1).bind fun v1 =>
  if v1 = 0 then
    (some (st, (-1 : Int32)))
  else
    ((bs_ld (ma st 0) 84 (71 : Int32)).bind fun v3 =>
    (M_has v3 a1).bind fun v4 =>
    if v4 = a2 then
      ((bs_ld (ma st 0) 84 (29 : Int32)).bind fun v6 =>
      if v6 = (40 : Int32) then
        (some (st, (-2 : Int32)))
      else
        ((M_does st (a3 + a1)).bind fun q8 =>
        (M_bedsIn q8 a1).bind fun v9 =>
        some (q8, v9)))
    else
      (some (st, (-4 : Int32))))
def rm_M_turn : Room := { frames := 4, cells := 0, slots := 0, locals := 96 }
set_option maxHeartbeats 4000000 in
set_option maxRecDepth 100000 in
theorem met_M_turn (l : Launch) (D : va_G) (ct : Nat → ClassId) (h : Nat → Nat) (sz : Nat) (st : MS) (a1 : Int32) (a2 : Int32) (a3 : Int32) (z : (MS × Int32)) (hd : M_turn st a1 a2 a3 = some z) : Met l yX1_turn (ws_ yX1_turn cX1_turn 4 (some .int)) rm_M_turn (GPre gE_0 D ct (mAs h) (WM ct h st) sz [.ref (h 0), .int a1, .int a2, .int a3]) (GQi D (mAs h) (mAs h) (WM ct h z.1) sz z.2) 0 0 (gA (mAs h) sz) := by
  refine g_met (cc := cX1_turn) (maxL := 4) (ret := (some .int)) (by decide) (Nat.le_of_ble_eq_true rfl) ?_
  intro p e U m args below meth c ls S hr hlk hK hH hE hsz hl
  have S : CallFix p m c cX1_turn 4 U args lw_all RX1 := S
  have hx := S.1
  have hb := S.2.1
  have hl : lv_has ls 4 [(0, .ref (h 0)), (1, .int a1), (2, .int a2), (3, .int a3)] := hl
  unfold M_turn at hd
  refine lv_aload_n (pc := 0) hx hb dX1_turn_0 rfl (lv_at hl 0 rfl) ?_
  refine lv_iload_n (pc := 1) hx hb dX1_turn_1 rfl (lv_at hl 1 rfl) ?_
  obtain ⟨v1, hv1, hd⟩ := bs_bd hd
  refine call_M_isRing (pc := 2) S hl hK hH q1066 hv1 ⟨Nat.le_of_ble_eq_true rfl, Nat.le_of_ble_eq_true rfl⟩ (Nat.le_of_ble_eq_true rfl) dX1_turn_2 ⟨Nat.zero_le _, Nat.zero_le _⟩ ?_
  refine lv_if_ne (pc := 5) (tgt := 10) hx hb dX1_turn_5 (by decide) (fun c2 => ?_) (fun c2 => ?_)
  · have hd := if_n c2 hd
    refine lv_aload_n (pc := 10) hx hb dX1_turn_10 rfl (lv_at hl 0 rfl) ?_
    refine mg_now (pc := 11) S hK hH dX1_turn_11 ?_
    refine lv_bipush (v := (71 : Int32)) (pc := 14) hx hb dX1_turn_14 (by decide) ?_
    obtain ⟨v3, hv3, hd⟩ := bs_bd hd
    refine ml_now (pc := 16) S hK hH hv3 dX1_turn_16 ?_
    refine lv_iload_n (pc := 17) hx hb dX1_turn_17 rfl (lv_at hl 1 rfl) ?_
    obtain ⟨v4, hv4, hd⟩ := bs_bd hd
    refine call_M_has (pc := 18) S hl q1075 hv4 ⟨Nat.le_of_ble_eq_true rfl, Nat.le_of_ble_eq_true rfl⟩ (Nat.le_of_ble_eq_true rfl) dX1_turn_18 ⟨Nat.zero_le _, Nat.zero_le _⟩ ?_
    refine lv_iload_n (pc := 21) hx hb dX1_turn_21 rfl (lv_at hl 2 rfl) ?_
    refine lv_icmp_eq (pc := 22) (tgt := 28) hx hb dX1_turn_22 (by decide) (fun c5 => ?_) (fun c5 => ?_)
    · have hd := if_t c5 hd
      refine lv_aload_n (pc := 28) hx hb dX1_turn_28 rfl (lv_at hl 0 rfl) ?_
      refine mg_now (pc := 29) S hK hH dX1_turn_29 ?_
      refine lv_bipush (v := (29 : Int32)) (pc := 32) hx hb dX1_turn_32 (by decide) ?_
      obtain ⟨v6, hv6, hd⟩ := bs_bd hd
      refine ml_now (pc := 34) S hK hH hv6 dX1_turn_34 ?_
      refine lv_bipush (v := (40 : Int32)) (pc := 35) hx hb dX1_turn_35 (by decide) ?_
      refine lv_icmp_ne (pc := 37) (tgt := 43) hx hb dX1_turn_37 (by decide) (fun c7 => ?_) (fun c7 => ?_)
      · have hd := if_n c7 hd
        refine lv_aload_n (pc := 43) hx hb dX1_turn_43 rfl (lv_at hl 0 rfl) ?_
        refine lv_iload_n (pc := 44) hx hb dX1_turn_44 rfl (lv_at hl 3 rfl) ?_
        refine lv_iload_n (pc := 45) hx hb dX1_turn_45 rfl (lv_at hl 1 rfl) ?_
        refine lv_iadd (pc := 46) hx hb dX1_turn_46 ?_
        obtain ⟨q8, hq8, hd⟩ := bs_bd hd
        refine call_M_does (pc := 47) S hl hK hH q1143 hq8 ⟨Nat.le_of_ble_eq_true rfl, Nat.le_of_ble_eq_true rfl⟩ (Nat.le_of_ble_eq_true rfl) dX1_turn_47 ⟨Nat.zero_le _, Nat.zero_le _⟩ (fun H locs hH => ?_)
        refine lv_aload_n (pc := 50) hx hb dX1_turn_50 rfl (lv_at hl 0 rfl) ?_
        refine lv_iload_n (pc := 51) hx hb dX1_turn_51 rfl (lv_at hl 1 rfl) ?_
        obtain ⟨v9, hv9, hd⟩ := bs_bd hd
        refine call_M_bedsIn (pc := 52) S hl hK hH q1081 hv9 ⟨Nat.le_of_ble_eq_true rfl, Nat.le_of_ble_eq_true rfl⟩ (Nat.le_of_ble_eq_true rfl) dX1_turn_52 ⟨Nat.zero_le _, Nat.zero_le _⟩ ?_
        exact g_iret (WM ct h) hd S hr hlk hH dX1_turn_55
      · have hd := if_t c7 hd
        refine lv_bipush (v := (-2 : Int32)) (pc := 40) hx hb dX1_turn_40 (by decide) ?_
        exact g_iret (WM ct h) hd S hr hlk hH dX1_turn_42
    · have hd := if_n c5 hd
      refine lv_bipush (v := (-4 : Int32)) (pc := 25) hx hb dX1_turn_25 (by decide) ?_
      exact g_iret (WM ct h) hd S hr hlk hH dX1_turn_27
  · have hd := if_t c2 hd
    refine lv_iconst (v := (-1 : Int32)) (pc := 8) hx hb dX1_turn_8 (by decide) ?_
    exact g_iret (WM ct h) hd S hr hlk hH dX1_turn_9
section CR_M_turn
variable {p : Program} {l : Launch} {e : Env} {R : Room} {s : State} {m : MethodId} {args : Array Value} {below : List Frame} {meth : Method} {c : Code} {H : Heap} {locs : List Loc} {cells slots : Nat} {Q : State → Prop}
variable {cc : ByteArray} {pc nL idx : Nat} {ls : Array Slot} {rest : List Value} {lv : List (Nat × Value)} {A : Nat → Prop} {H0 : Heap} {own : String}
theorem call_M_turn {D : va_G} {ct : Nat → ClassId} {h : Nat → Nat} {st : MS} {a1 : Int32} {a2 : Int32} {a3 : Int32} {z : (MS × Int32)} (S : CallFix p m c cc nL s args lw_all own) (hl : lv_has ls nL lv) (hK : va_K D clA (tysG ct) s) (hH : GH D A (mAs h) H0 (WM ct h st) H locs) (hlk : Cond.methodLink own idx yX1_turn ∈ lw_all) (hv : M_turn st a1 a2 a3 = some z) (hR : 5 ≤ R.frames ∧ 119 ≤ R.locals) (hsum : (rest.map fun v => v.category).sum ≤ 8) (hdg : decode cc pc = .ok (.invokevirtual idx, 3)) (hf : cells ≤ R.cells ∧ slots ≤ R.slots)
    (k : ∀ (H1 : Heap) (locs1 : List Loc), GH D A (mAs h) H0 (WM ct h z.1) H1 locs1 → W p l e R s m args below meth c H1 locs1 cells slots Q (F0 m (pc + 3) ls (.int z.2 :: rest))) : W p l e R s m args below meth c H locs cells slots Q (F0 m pc ls (.int a3 :: .int a2 :: .int a1 :: .ref (h 0) :: rest)) :=
  g_calli (av := [.int a1, .int a2, .int a3]) S hl gE_0_ok trivial hK hH (met_M_turn l D ct h H.size st a1 a2 a3 z hv) (lw_V hlk q1171 qs58 q70 q1172) rfl rfl ⟨rfl, by decide, by decide, by show (parseMethodDescriptor yX1_turn.desc).map (fun d => d.parameters.length) = some 3; decide +kernel⟩ hR (m_recv hK hH) (fun _ h => Or.inl h) rfl hsum hdg hf k
end CR_M_turn
/-! CapCouncilModel.gather (I)I -/
def M_gather (st : MS) (a1 : Int32) : Option (MS × Int32) :=
  (M_turn st a1 (1 : Int32) (2000 : Int32)).bind fun q1 =>
  some (q1.1, q1.2)
def rm_M_gather : Room := { frames := 5, cells := 0, slots := 0, locals := 119 }
set_option maxHeartbeats 4000000 in
set_option maxRecDepth 100000 in
theorem met_M_gather (l : Launch) (D : va_G) (ct : Nat → ClassId) (h : Nat → Nat) (sz : Nat) (st : MS) (a1 : Int32) (z : (MS × Int32)) (hd : M_gather st a1 = some z) : Met l yX1_gather (ws_ yX1_gather cX1_gather 2 (some .int)) rm_M_gather (GPre gE_0 D ct (mAs h) (WM ct h st) sz [.ref (h 0), .int a1]) (GQi D (mAs h) (mAs h) (WM ct h z.1) sz z.2) 0 0 (gA (mAs h) sz) := by
  refine g_met (cc := cX1_gather) (maxL := 2) (ret := (some .int)) (by decide) (Nat.le_of_ble_eq_true rfl) ?_
  intro p e U m args below meth c ls S hr hlk hK hH hE hsz hl
  have S : CallFix p m c cX1_gather 2 U args lw_all RX1 := S
  have hx := S.1
  have hb := S.2.1
  have hl : lv_has ls 2 [(0, .ref (h 0)), (1, .int a1)] := hl
  unfold M_gather at hd
  refine lv_aload_n (pc := 0) hx hb dX1_gather_0 rfl (lv_at hl 0 rfl) ?_
  refine lv_iload_n (pc := 1) hx hb dX1_gather_1 rfl (lv_at hl 1 rfl) ?_
  refine lv_iconst (v := (1 : Int32)) (pc := 2) hx hb dX1_gather_2 (by decide) ?_
  refine lv_sipush (v := (2000 : Int32)) (pc := 3) hx hb dX1_gather_3 (by decide) ?_
  obtain ⟨q1, hq1, hd⟩ := bs_bd hd
  refine call_M_turn (pc := 6) S hl hK hH q1169 hq1 ⟨Nat.le_of_ble_eq_true rfl, Nat.le_of_ble_eq_true rfl⟩ (Nat.le_of_ble_eq_true rfl) dX1_gather_6 ⟨Nat.zero_le _, Nat.zero_le _⟩ (fun H locs hH => ?_)
  exact g_iret (WM ct h) hd S hr hlk hH dX1_gather_9
section CR_M_gather
variable {p : Program} {l : Launch} {e : Env} {R : Room} {s : State} {m : MethodId} {args : Array Value} {below : List Frame} {meth : Method} {c : Code} {H : Heap} {locs : List Loc} {cells slots : Nat} {Q : State → Prop}
variable {cc : ByteArray} {pc nL idx : Nat} {ls : Array Slot} {rest : List Value} {lv : List (Nat × Value)} {A : Nat → Prop} {H0 : Heap} {own : String}
theorem call_M_gather {D : va_G} {ct : Nat → ClassId} {h : Nat → Nat} {st : MS} {a1 : Int32} {z : (MS × Int32)} (S : CallFix p m c cc nL s args lw_all own) (hl : lv_has ls nL lv) (hK : va_K D clA (tysG ct) s) (hH : GH D A (mAs h) H0 (WM ct h st) H locs) (hlk : Cond.methodLink own idx yX1_gather ∈ lw_all) (hv : M_gather st a1 = some z) (hR : 6 ≤ R.frames ∧ 140 ≤ R.locals) (hsum : (rest.map fun v => v.category).sum ≤ 8) (hdg : decode cc pc = .ok (.invokevirtual idx, 3)) (hf : cells ≤ R.cells ∧ slots ≤ R.slots)
    (k : ∀ (H1 : Heap) (locs1 : List Loc), GH D A (mAs h) H0 (WM ct h z.1) H1 locs1 → W p l e R s m args below meth c H1 locs1 cells slots Q (F0 m (pc + 3) ls (.int z.2 :: rest))) : W p l e R s m args below meth c H locs cells slots Q (F0 m pc ls (.int a1 :: .ref (h 0) :: rest)) :=
  g_calli (av := [.int a1]) S hl gE_0_ok trivial hK hH (met_M_gather l D ct h H.size st a1 z hv) (lw_V hlk q1166 q1167 q70 q1168) rfl rfl ⟨rfl, by decide, by decide, by show (parseMethodDescriptor yX1_gather.desc).map (fun d => d.parameters.length) = some 1; decide +kernel⟩ hR (m_recv hK hH) (fun _ h => Or.inl h) rfl hsum hdg hf k
end CR_M_gather
/-! CapCouncilModel.make (I)I -/
def M_make (st : MS) (a1 : Int32) : Option (MS × Int32) :=
  (M_turn st a1 (0 : Int32) (3000 : Int32)).bind fun q1 =>
  some (q1.1, q1.2)
def rm_M_make : Room := { frames := 5, cells := 0, slots := 0, locals := 119 }
set_option maxHeartbeats 4000000 in
set_option maxRecDepth 100000 in
theorem met_M_make (l : Launch) (D : va_G) (ct : Nat → ClassId) (h : Nat → Nat) (sz : Nat) (st : MS) (a1 : Int32) (z : (MS × Int32)) (hd : M_make st a1 = some z) : Met l yX1_make (ws_ yX1_make cX1_make 2 (some .int)) rm_M_make (GPre gE_0 D ct (mAs h) (WM ct h st) sz [.ref (h 0), .int a1]) (GQi D (mAs h) (mAs h) (WM ct h z.1) sz z.2) 0 0 (gA (mAs h) sz) := by
  refine g_met (cc := cX1_make) (maxL := 2) (ret := (some .int)) (by decide) (Nat.le_of_ble_eq_true rfl) ?_
  intro p e U m args below meth c ls S hr hlk hK hH hE hsz hl
  have S : CallFix p m c cX1_make 2 U args lw_all RX1 := S
  have hx := S.1
  have hb := S.2.1
  have hl : lv_has ls 2 [(0, .ref (h 0)), (1, .int a1)] := hl
  unfold M_make at hd
  refine lv_aload_n (pc := 0) hx hb dX1_make_0 rfl (lv_at hl 0 rfl) ?_
  refine lv_iload_n (pc := 1) hx hb dX1_make_1 rfl (lv_at hl 1 rfl) ?_
  refine lv_iconst (v := (0 : Int32)) (pc := 2) hx hb dX1_make_2 (by decide) ?_
  refine lv_sipush (v := (3000 : Int32)) (pc := 3) hx hb dX1_make_3 (by decide) ?_
  obtain ⟨q1, hq1, hd⟩ := bs_bd hd
  refine call_M_turn (pc := 6) S hl hK hH q1169 hq1 ⟨Nat.le_of_ble_eq_true rfl, Nat.le_of_ble_eq_true rfl⟩ (Nat.le_of_ble_eq_true rfl) dX1_make_6 ⟨Nat.zero_le _, Nat.zero_le _⟩ (fun H locs hH => ?_)
  exact g_iret (WM ct h) hd S hr hlk hH dX1_make_9
section CR_M_make
variable {p : Program} {l : Launch} {e : Env} {R : Room} {s : State} {m : MethodId} {args : Array Value} {below : List Frame} {meth : Method} {c : Code} {H : Heap} {locs : List Loc} {cells slots : Nat} {Q : State → Prop}
variable {cc : ByteArray} {pc nL idx : Nat} {ls : Array Slot} {rest : List Value} {lv : List (Nat × Value)} {A : Nat → Prop} {H0 : Heap} {own : String}
theorem call_M_make {D : va_G} {ct : Nat → ClassId} {h : Nat → Nat} {st : MS} {a1 : Int32} {z : (MS × Int32)} (S : CallFix p m c cc nL s args lw_all own) (hl : lv_has ls nL lv) (hK : va_K D clA (tysG ct) s) (hH : GH D A (mAs h) H0 (WM ct h st) H locs) (hlk : Cond.methodLink own idx yX1_make ∈ lw_all) (hv : M_make st a1 = some z) (hR : 6 ≤ R.frames ∧ 140 ≤ R.locals) (hsum : (rest.map fun v => v.category).sum ≤ 8) (hdg : decode cc pc = .ok (.invokevirtual idx, 3)) (hf : cells ≤ R.cells ∧ slots ≤ R.slots)
    (k : ∀ (H1 : Heap) (locs1 : List Loc), GH D A (mAs h) H0 (WM ct h z.1) H1 locs1 → W p l e R s m args below meth c H1 locs1 cells slots Q (F0 m (pc + 3) ls (.int z.2 :: rest))) : W p l e R s m args below meth c H locs cells slots Q (F0 m pc ls (.int a1 :: .ref (h 0) :: rest)) :=
  g_calli (av := [.int a1]) S hl gE_0_ok trivial hK hH (met_M_make l D ct h H.size st a1 z hv) (lw_V hlk q1174 q1175 q70 q1176) rfl rfl ⟨rfl, by decide, by decide, by show (parseMethodDescriptor yX1_make.desc).map (fun d => d.parameters.length) = some 1; decide +kernel⟩ hR (m_recv hK hH) (fun _ h => Or.inl h) rfl hsum hdg hf k
end CR_M_make
/-! CapCouncilModel.think (II)I -/
def M_think (st : MS) (a1 : Int32) (a2 : Int32) : Option (MS × Int32) :=
  (M_isBed st a1).bind fun v1 =>
  if v1 = 0 then
    (some (st, (-1 : Int32)))
  else
    ((M_in (a2.toInt64) (0 : Int64) (9 : Int64)).bind fun v3 =>
    if v3 = 0 then
      (some (st, (-1 : Int32)))
    else
      ((bs_ld (ma st 0) 84 (29 : Int32)).bind fun v5 =>
      if v5 = (40 : Int32) then
        (some (st, (-2 : Int32)))
      else
        ((bs_ld (ma st 0) 84 ((78 : Int32) + a1)).bind fun v7 =>
        (M_does st (((4000 : Int32) + ((10 : Int32) * a1)) + a2)).bind fun q8 =>
        some (q8, v7))))
def rm_M_think : Room := { frames := 2, cells := 0, slots := 0, locals := 46 }
set_option maxHeartbeats 4000000 in
set_option maxRecDepth 100000 in
theorem met_M_think (l : Launch) (D : va_G) (ct : Nat → ClassId) (h : Nat → Nat) (sz : Nat) (st : MS) (a1 : Int32) (a2 : Int32) (z : (MS × Int32)) (hd : M_think st a1 a2 = some z) : Met l yX1_think (ws_ yX1_think cX1_think 4 (some .int)) rm_M_think (GPre gE_0 D ct (mAs h) (WM ct h st) sz [.ref (h 0), .int a1, .int a2]) (GQi D (mAs h) (mAs h) (WM ct h z.1) sz z.2) 0 0 (gA (mAs h) sz) := by
  refine g_met (cc := cX1_think) (maxL := 4) (ret := (some .int)) (by decide) (Nat.le_of_ble_eq_true rfl) ?_
  intro p e U m args below meth c ls S hr hlk hK hH hE hsz hl
  have S : CallFix p m c cX1_think 4 U args lw_all RX1 := S
  have hx := S.1
  have hb := S.2.1
  have hl : lv_has ls 4 [(0, .ref (h 0)), (1, .int a1), (2, .int a2)] := hl
  unfold M_think at hd
  refine lv_aload_n (pc := 0) hx hb dX1_think_0 rfl (lv_at hl 0 rfl) ?_
  refine lv_iload_n (pc := 1) hx hb dX1_think_1 rfl (lv_at hl 1 rfl) ?_
  obtain ⟨v1, hv1, hd⟩ := bs_bd hd
  refine call_M_isBed (pc := 2) S hl hK hH q1103 hv1 ⟨Nat.le_of_ble_eq_true rfl, Nat.le_of_ble_eq_true rfl⟩ (Nat.le_of_ble_eq_true rfl) dX1_think_2 ⟨Nat.zero_le _, Nat.zero_le _⟩ ?_
  refine lv_if_eq (pc := 5) (tgt := 20) hx hb dX1_think_5 (by decide) (fun c2 => ?_) (fun c2 => ?_)
  · have hd := if_t c2 hd
    refine lv_iconst (v := (-1 : Int32)) (pc := 20) hx hb dX1_think_20 (by decide) ?_
    exact g_iret (WM ct h) hd S hr hlk hH dX1_think_21
  · have hd := if_n c2 hd
    refine lv_iload_n (pc := 8) hx hb dX1_think_8 rfl (lv_at hl 2 rfl) ?_
    refine lv_i2l (pc := 9) hx hb dX1_think_9 rfl ?_
    refine lv_lconst (v := (0 : Int64)) (pc := 10) hx hb dX1_think_10 (by decide) ?_
    refine lv_ldc2 (pc := 11) (own := RX1) (v := (9 : Int64)) hx hb S.2.2.2.1 (S.2.2.2.2 _ q1181) dX1_think_11 ?_
    obtain ⟨v3, hv3, hd⟩ := bs_bd hd
    refine call_M_in (pc := 14) S hl q974 hv3 ⟨Nat.le_of_ble_eq_true rfl, Nat.le_of_ble_eq_true rfl⟩ (Nat.le_of_ble_eq_true rfl) dX1_think_14 ⟨Nat.zero_le _, Nat.zero_le _⟩ ?_
    refine lv_if_ne (pc := 17) (tgt := 22) hx hb dX1_think_17 (by decide) (fun c4 => ?_) (fun c4 => ?_)
    · have hd := if_n c4 hd
      refine lv_aload_n (pc := 22) hx hb dX1_think_22 rfl (lv_at hl 0 rfl) ?_
      refine mg_now (pc := 23) S hK hH dX1_think_23 ?_
      refine lv_bipush (v := (29 : Int32)) (pc := 26) hx hb dX1_think_26 (by decide) ?_
      obtain ⟨v5, hv5, hd⟩ := bs_bd hd
      refine ml_now (pc := 28) S hK hH hv5 dX1_think_28 ?_
      refine lv_bipush (v := (40 : Int32)) (pc := 29) hx hb dX1_think_29 (by decide) ?_
      refine lv_icmp_ne (pc := 31) (tgt := 37) hx hb dX1_think_31 (by decide) (fun c6 => ?_) (fun c6 => ?_)
      · have hd := if_n c6 hd
        refine lv_aload_n (pc := 37) hx hb dX1_think_37 rfl (lv_at hl 0 rfl) ?_
        refine mg_now (pc := 38) S hK hH dX1_think_38 ?_
        refine lv_bipush (v := (78 : Int32)) (pc := 41) hx hb dX1_think_41 (by decide) ?_
        refine lv_iload_n (pc := 43) hx hb dX1_think_43 rfl (lv_at hl 1 rfl) ?_
        refine lv_iadd (pc := 44) hx hb dX1_think_44 ?_
        obtain ⟨v7, hv7, hd⟩ := bs_bd hd
        refine ml_now (pc := 45) S hK hH hv7 dX1_think_45 ?_
        refine lv_istore_n (pc := 46) (lv' := [(3, .int v7), (0, .ref (h 0)), (1, .int a1), (2, .int a2)]) hx hb dX1_think_46 rfl hl (by decide) rfl (fun ls hl => ?_)
        refine lv_aload_n (pc := 47) hx hb dX1_think_47 rfl (lv_at hl 1 rfl) ?_
        refine lv_sipush (v := (4000 : Int32)) (pc := 48) hx hb dX1_think_48 (by decide) ?_
        refine lv_bipush (v := (10 : Int32)) (pc := 51) hx hb dX1_think_51 (by decide) ?_
        refine lv_iload_n (pc := 53) hx hb dX1_think_53 rfl (lv_at hl 2 rfl) ?_
        refine lv_imul (pc := 54) hx hb dX1_think_54 ?_
        refine lv_iadd (pc := 55) hx hb dX1_think_55 ?_
        refine lv_iload_n (pc := 56) hx hb dX1_think_56 rfl (lv_at hl 3 rfl) ?_
        refine lv_iadd (pc := 57) hx hb dX1_think_57 ?_
        obtain ⟨q8, hq8, hd⟩ := bs_bd hd
        refine call_M_does (pc := 58) S hl hK hH q1143 hq8 ⟨Nat.le_of_ble_eq_true rfl, Nat.le_of_ble_eq_true rfl⟩ (Nat.le_of_ble_eq_true rfl) dX1_think_58 ⟨Nat.zero_le _, Nat.zero_le _⟩ (fun H locs hH => ?_)
        refine lv_iload_n (pc := 61) hx hb dX1_think_61 rfl (lv_at hl 0 rfl) ?_
        exact g_iret (WM ct h) hd S hr hlk hH dX1_think_62
      · have hd := if_t c6 hd
        refine lv_bipush (v := (-2 : Int32)) (pc := 34) hx hb dX1_think_34 (by decide) ?_
        exact g_iret (WM ct h) hd S hr hlk hH dX1_think_36
    · have hd := if_t c4 hd
      refine lv_iconst (v := (-1 : Int32)) (pc := 20) hx hb dX1_think_20 (by decide) ?_
      exact g_iret (WM ct h) hd S hr hlk hH dX1_think_21
section CR_M_think
variable {p : Program} {l : Launch} {e : Env} {R : Room} {s : State} {m : MethodId} {args : Array Value} {below : List Frame} {meth : Method} {c : Code} {H : Heap} {locs : List Loc} {cells slots : Nat} {Q : State → Prop}
variable {cc : ByteArray} {pc nL idx : Nat} {ls : Array Slot} {rest : List Value} {lv : List (Nat × Value)} {A : Nat → Prop} {H0 : Heap} {own : String}
theorem call_M_think {D : va_G} {ct : Nat → ClassId} {h : Nat → Nat} {st : MS} {a1 : Int32} {a2 : Int32} {z : (MS × Int32)} (S : CallFix p m c cc nL s args lw_all own) (hl : lv_has ls nL lv) (hK : va_K D clA (tysG ct) s) (hH : GH D A (mAs h) H0 (WM ct h st) H locs) (hlk : Cond.methodLink own idx yX1_think ∈ lw_all) (hv : M_think st a1 a2 = some z) (hR : 3 ≤ R.frames ∧ 69 ≤ R.locals) (hsum : (rest.map fun v => v.category).sum ≤ 8) (hdg : decode cc pc = .ok (.invokevirtual idx, 3)) (hf : cells ≤ R.cells ∧ slots ≤ R.slots)
    (k : ∀ (H1 : Heap) (locs1 : List Loc), GH D A (mAs h) H0 (WM ct h z.1) H1 locs1 → W p l e R s m args below meth c H1 locs1 cells slots Q (F0 m (pc + 3) ls (.int z.2 :: rest))) : W p l e R s m args below meth c H locs cells slots Q (F0 m pc ls (.int a2 :: .int a1 :: .ref (h 0) :: rest)) :=
  g_calli (av := [.int a1, .int a2]) S hl gE_0_ok trivial hK hH (met_M_think l D ct h H.size st a1 a2 z hv) (lw_V hlk q1178 q1179 q70 q1180) rfl rfl ⟨rfl, by decide, by decide, by show (parseMethodDescriptor yX1_think.desc).map (fun d => d.parameters.length) = some 2; decide +kernel⟩ hR (m_recv hK hH) (fun _ h => Or.inl h) rfl hsum hdg hf k
end CR_M_think
/-! CapCouncilModel.undo (I)I -/
def M_undo_L38 (a1 : Int32) : Nat → MS → Int32 → Int32 → Option (MS × Int32)
  | 0, _, _, _ => none
  | n + 1, st, x2, x3 =>
    if a1 ≤ x3 then
      ((mast st 0 84 (29 : Int32) a1).bind fun s8 =>
      some (s8, x2))
    else
      ((bs_ld (ma st 0) 84 ((30 : Int32) + x3)).bind fun v9 =>
      (M_goDeed_now st v9).bind fun q10 =>
      bs_let (x3 + (1 : Int32)) fun w11 =>
      M_undo_L38 a1 n q10 x2 w11)
def M_undo (st : MS) (a1 : Int32) : Option (MS × Int32) :=
  (bs_ld (ma st 0) 84 (29 : Int32)).bind fun v1 =>
  (M_in (a1.toInt64) (0 : Int64) (v1.toInt64)).bind fun v2 =>
  if v2 = 0 then
    (some (st, (-1 : Int32)))
  else
    ((bs_ld (ma st 0) 84 (29 : Int32)).bind fun v4 =>
    bs_let (v4 - a1) fun w5 =>
    (M_begin_now st).bind fun q6 =>
    M_undo_L38 a1 bs_fu q6 w5 (0 : Int32))
def rm_M_undo : Room := { frames := 1, cells := 0, slots := 0, locals := 25 }
set_option maxHeartbeats 4000000 in
set_option maxRecDepth 100000 in
theorem met_M_undo (l : Launch) (D : va_G) (ct : Nat → ClassId) (h : Nat → Nat) (sz : Nat) (st : MS) (a1 : Int32) (z : (MS × Int32)) (hd : M_undo st a1 = some z) : Met l yX1_undo (ws_ yX1_undo cX1_undo 4 (some .int)) rm_M_undo (GPre gE_0 D ct (mAs h) (WM ct h st) sz [.ref (h 0), .int a1]) (GQi D (mAs h) (mAs h) (WM ct h z.1) sz z.2) 0 0 (gA (mAs h) sz) := by
  refine g_met (cc := cX1_undo) (maxL := 4) (ret := (some .int)) (by decide) (Nat.le_of_ble_eq_true rfl) ?_
  intro p e U m args below meth c ls S hr hlk hK hH hE hsz hl
  have S : CallFix p m c cX1_undo 4 U args lw_all RX1 := S
  have hx := S.1
  have hb := S.2.1
  have hl : lv_has ls 4 [(0, .ref (h 0)), (1, .int a1)] := hl
  have h38 : ∀ (n38 : Nat) (st : MS) (x2 : Int32) (x3 : Int32) (H : Heap) (locs : List Loc) (ls : Array Slot), GH D (gA (mAs h) sz) (mAs h) U.heap (WM ct h st) H locs → lv_has ls 4 [(0, .ref (h 0)), (1, .int a1), (2, .int x2), (3, .int x3)] → M_undo_L38 a1 n38 st x2 x3 = some z → W p l e rm_M_undo U m args below meth c H locs 0 0 (MQ below (GQi D (mAs h) (mAs h) (WM ct h z.1) sz z.2) args U 0 0 (gA (mAs h) sz)) (F0 m 38 ls []) := by
    intro n38
    induction n38 with
    | zero =>
      intro st x2 x3 H locs ls hH hl hd
      rw [M_undo_L38] at hd
      cases hd
    | succ n38 ih38 =>
      intro st x2 x3 H locs ls hH hl hd
      rw [M_undo_L38] at hd
      refine lv_iload_n (pc := 38) hx hb dX1_undo_38 rfl (lv_at hl 3 rfl) ?_
      refine lv_iload_n (pc := 39) hx hb dX1_undo_39 rfl (lv_at hl 1 rfl) ?_
      refine lv_icmp_ge (pc := 40) (tgt := 65) hx hb dX1_undo_40 (by decide) (fun c7 => ?_) (fun c7 => ?_)
      · have hd := if_t c7 hd
        refine lv_aload_n (pc := 65) hx hb dX1_undo_65 rfl (lv_at hl 0 rfl) ?_
        refine mg_now (pc := 66) S hK hH dX1_undo_66 ?_
        refine lv_bipush (v := (29 : Int32)) (pc := 69) hx hb dX1_undo_69 (by decide) ?_
        refine lv_iload_n (pc := 71) hx hb dX1_undo_71 rfl (lv_at hl 1 rfl) ?_
        obtain ⟨s8, hs8, hd⟩ := bs_bd hd
        refine ms_now (pc := 72) S hK hH hs8 dX1_undo_72 (fun H locs hH => ?_)
        refine lv_iload_n (pc := 73) hx hb dX1_undo_73 rfl (lv_at hl 2 rfl) ?_
        exact g_iret (WM ct h) hd S hr hlk hH dX1_undo_74
      · have hd := if_n c7 hd
        refine lv_aload_n (pc := 43) hx hb dX1_undo_43 rfl (lv_at hl 0 rfl) ?_
        refine mg_now (pc := 44) S hK hH dX1_undo_44 ?_
        refine lv_aload_n (pc := 47) hx hb dX1_undo_47 rfl (lv_at hl 0 rfl) ?_
        refine mg_now (pc := 48) S hK hH dX1_undo_48 ?_
        refine lv_bipush (v := (30 : Int32)) (pc := 51) hx hb dX1_undo_51 (by decide) ?_
        refine lv_iload_n (pc := 53) hx hb dX1_undo_53 rfl (lv_at hl 3 rfl) ?_
        refine lv_iadd (pc := 54) hx hb dX1_undo_54 ?_
        obtain ⟨v9, hv9, hd⟩ := bs_bd hd
        refine ml_now (pc := 55) S hK hH hv9 dX1_undo_55 ?_
        obtain ⟨q10, hq10, hd⟩ := bs_bd hd
        refine call_M_goDeed_now (pc := 56) S hl hK hH q1147 hq10 ⟨Nat.le_of_ble_eq_true rfl, Nat.le_of_ble_eq_true rfl⟩ (Nat.le_of_ble_eq_true rfl) dX1_undo_56 ⟨Nat.zero_le _, Nat.zero_le _⟩ (fun H locs hH => ?_)
        obtain ⟨w11, ew11, hd⟩ := bs_let_spec hd
        refine lv_iinc (pc := 59) (v := w11) (lv' := [(3, .int w11), (0, .ref (h 0)), (1, .int a1), (2, .int x2)]) hx hb dX1_undo_59 hl (k := 3) rfl (by rw [ew11]; rfl) (by decide) rfl (fun ls hl => ?_)
        refine lv_goto (pc := 62) (tgt := 38) hx hb dX1_undo_62 (by decide) ?_
        exact ih38 q10 x2 w11 _ _ _ hH (lv_sub hl [1, 2, 3, 0] rfl) hd
  unfold M_undo at hd
  refine lv_iload_n (pc := 0) hx hb dX1_undo_0 rfl (lv_at hl 1 rfl) ?_
  refine lv_i2l (pc := 1) hx hb dX1_undo_1 rfl ?_
  refine lv_lconst (v := (0 : Int64)) (pc := 2) hx hb dX1_undo_2 (by decide) ?_
  refine lv_aload_n (pc := 3) hx hb dX1_undo_3 rfl (lv_at hl 0 rfl) ?_
  refine mg_now (pc := 4) S hK hH dX1_undo_4 ?_
  refine lv_bipush (v := (29 : Int32)) (pc := 7) hx hb dX1_undo_7 (by decide) ?_
  obtain ⟨v1, hv1, hd⟩ := bs_bd hd
  refine ml_now (pc := 9) S hK hH hv1 dX1_undo_9 ?_
  refine lv_i2l (pc := 10) hx hb dX1_undo_10 rfl ?_
  obtain ⟨v2, hv2, hd⟩ := bs_bd hd
  refine call_M_in (pc := 11) S hl q974 hv2 ⟨Nat.le_of_ble_eq_true rfl, Nat.le_of_ble_eq_true rfl⟩ (Nat.le_of_ble_eq_true rfl) dX1_undo_11 ⟨Nat.zero_le _, Nat.zero_le _⟩ ?_
  refine lv_if_ne (pc := 14) (tgt := 19) hx hb dX1_undo_14 (by decide) (fun c3 => ?_) (fun c3 => ?_)
  · have hd := if_n c3 hd
    refine lv_aload_n (pc := 19) hx hb dX1_undo_19 rfl (lv_at hl 0 rfl) ?_
    refine mg_now (pc := 20) S hK hH dX1_undo_20 ?_
    refine lv_bipush (v := (29 : Int32)) (pc := 23) hx hb dX1_undo_23 (by decide) ?_
    obtain ⟨v4, hv4, hd⟩ := bs_bd hd
    refine ml_now (pc := 25) S hK hH hv4 dX1_undo_25 ?_
    refine lv_iload_n (pc := 26) hx hb dX1_undo_26 rfl (lv_at hl 1 rfl) ?_
    refine lv_isub (pc := 27) hx hb dX1_undo_27 ?_
    obtain ⟨w5, ew5, hd⟩ := bs_let_spec hd
    refine lv_topE (pc := 28) ew5 ?_
    refine lv_istore_n (pc := 28) (lv' := [(2, .int w5), (0, .ref (h 0)), (1, .int a1)]) hx hb dX1_undo_28 rfl hl (by decide) rfl (fun ls hl => ?_)
    refine lv_aload_n (pc := 29) hx hb dX1_undo_29 rfl (lv_at hl 1 rfl) ?_
    refine mg_now (pc := 30) S hK hH dX1_undo_30 ?_
    obtain ⟨q6, hq6, hd⟩ := bs_bd hd
    refine call_M_begin_now (pc := 33) S hl hK hH q1059 hq6 ⟨Nat.le_of_ble_eq_true rfl, Nat.le_of_ble_eq_true rfl⟩ (Nat.le_of_ble_eq_true rfl) dX1_undo_33 ⟨Nat.zero_le _, Nat.zero_le _⟩ (fun H locs hH => ?_)
    refine lv_iconst (v := (0 : Int32)) (pc := 36) hx hb dX1_undo_36 (by decide) ?_
    refine lv_istore_n (pc := 37) (lv' := [(3, .int (0 : Int32)), (2, .int w5), (0, .ref (h 0)), (1, .int a1)]) hx hb dX1_undo_37 rfl hl (by decide) rfl (fun ls hl => ?_)
    exact h38 bs_fu q6 w5 (0 : Int32) _ _ _ hH (lv_sub hl [2, 3, 1, 0] rfl) hd
  · have hd := if_t c3 hd
    refine lv_iconst (v := (-1 : Int32)) (pc := 17) hx hb dX1_undo_17 (by decide) ?_
    exact g_iret (WM ct h) hd S hr hlk hH dX1_undo_18
section CR_M_undo
variable {p : Program} {l : Launch} {e : Env} {R : Room} {s : State} {m : MethodId} {args : Array Value} {below : List Frame} {meth : Method} {c : Code} {H : Heap} {locs : List Loc} {cells slots : Nat} {Q : State → Prop}
variable {cc : ByteArray} {pc nL idx : Nat} {ls : Array Slot} {rest : List Value} {lv : List (Nat × Value)} {A : Nat → Prop} {H0 : Heap} {own : String}
theorem call_M_undo {D : va_G} {ct : Nat → ClassId} {h : Nat → Nat} {st : MS} {a1 : Int32} {z : (MS × Int32)} (S : CallFix p m c cc nL s args lw_all own) (hl : lv_has ls nL lv) (hK : va_K D clA (tysG ct) s) (hH : GH D A (mAs h) H0 (WM ct h st) H locs) (hlk : Cond.methodLink own idx yX1_undo ∈ lw_all) (hv : M_undo st a1 = some z) (hR : 2 ≤ R.frames ∧ 48 ≤ R.locals) (hsum : (rest.map fun v => v.category).sum ≤ 8) (hdg : decode cc pc = .ok (.invokevirtual idx, 3)) (hf : cells ≤ R.cells ∧ slots ≤ R.slots)
    (k : ∀ (H1 : Heap) (locs1 : List Loc), GH D A (mAs h) H0 (WM ct h z.1) H1 locs1 → W p l e R s m args below meth c H1 locs1 cells slots Q (F0 m (pc + 3) ls (.int z.2 :: rest))) : W p l e R s m args below meth c H locs cells slots Q (F0 m pc ls (.int a1 :: .ref (h 0) :: rest)) :=
  g_calli (av := [.int a1]) S hl gE_0_ok trivial hK hH (met_M_undo l D ct h H.size st a1 z hv) (lw_V hlk q1183 q1184 q70 q1185) rfl rfl ⟨rfl, by decide, by decide, by show (parseMethodDescriptor yX1_undo.desc).map (fun d => d.parameters.length) = some 1; decide +kernel⟩ hR (m_recv hK hH) (fun _ h => Or.inl h) rfl hsum hdg hf k
end CR_M_undo
/-! CapCouncilModel.isShelf (I)Z -/
def M_isShelf (a0 : Int32) : Option Int32 :=
  (M_in (a0.toInt64) (0 : Int64) (2 : Int64)).bind fun v1 =>
  bs_gb v1 (some v1)
def rm_M_isShelf : Room := { frames := 1, cells := 0, slots := 0, locals := 25 }
set_option maxHeartbeats 4000000 in
set_option maxRecDepth 100000 in
theorem met_M_isShelf (l : Launch) (a0 : Int32) (z : Int32) (hd : M_isShelf a0 = some z) : Met l yX1_isShelf (ws_ yX1_isShelf cX1_isShelf 1 (some .boolean)) rm_M_isShelf (va_Pc [.int a0] (fun _ => True)) (vp_Si (fun r => r = z)) 0 0 (fun _ => False) := by
  refine p_met (cc := cX1_isShelf) (maxL := 1) (ret := (some .boolean)) (by decide) (Nat.le_of_ble_eq_true rfl) ?_
  intro p e U m args below meth c ls S hr hlk hl
  have S : CallFix p m c cX1_isShelf 1 U args lw_all RX1 := S
  have hx := S.1
  have hb := S.2.1
  have hl : lv_has ls 1 [(0, .int a0)] := hl
  unfold M_isShelf at hd
  refine lv_iload_n (pc := 0) hx hb dX1_isShelf_0 rfl (lv_at hl 0 rfl) ?_
  refine lv_i2l (pc := 1) hx hb dX1_isShelf_1 rfl ?_
  refine lv_lconst (v := (0 : Int64)) (pc := 2) hx hb dX1_isShelf_2 (by decide) ?_
  refine lv_ldc2 (pc := 3) (own := RX1) (v := (2 : Int64)) hx hb S.2.2.2.1 (S.2.2.2.2 _ q1107) dX1_isShelf_3 ?_
  obtain ⟨v1, hv1, hd⟩ := bs_bd hd
  refine call_M_in (pc := 6) S hl q974 hv1 ⟨Nat.le_of_ble_eq_true rfl, Nat.le_of_ble_eq_true rfl⟩ (Nat.le_of_ble_eq_true rfl) dX1_isShelf_6 ⟨Nat.zero_le _, Nat.zero_le _⟩ ?_
  obtain ⟨hn2, hd⟩ := bs_gb_spec hd
  exact r_zret hn2 hd S hr hlk dX1_isShelf_9
section CR_M_isShelf
variable {p : Program} {l : Launch} {e : Env} {R : Room} {s : State} {m : MethodId} {args : Array Value} {below : List Frame} {meth : Method} {c : Code} {H : Heap} {locs : List Loc} {cells slots : Nat} {Q : State → Prop}
variable {cc : ByteArray} {pc nL idx : Nat} {ls : Array Slot} {rest : List Value} {lv : List (Nat × Value)} {A : Nat → Prop} {H0 : Heap} {own : String}
theorem call_M_isShelf {a0 : Int32} {z : Int32} (S : CallFix p m c cc nL s args lw_all own) (hl : lv_has ls nL lv) (hlk : Cond.methodLink own idx yX1_isShelf ∈ lw_all) (hv : M_isShelf a0 = some z) (hR : 2 ≤ R.frames ∧ 45 ≤ R.locals) (hsum : (rest.map fun v => v.category).sum ≤ 8) (hdg : decode cc pc = .ok (.invokestatic idx, 3)) (hf : cells ≤ R.cells ∧ slots ≤ R.slots)
    (k : W p l e R s m args below meth c H locs cells slots Q (F0 m (pc + 3) ls (.int z :: rest))) : W p l e R s m args below meth c H locs cells slots Q (F0 m pc ls (.int a0 :: rest)) :=
  p_calli (av := [.int a0]) S hl (met_M_isShelf l a0 z hv) (lw_S hlk q1191 q70 q1192) rfl rfl ⟨by decide, by decide, by show (parseMethodDescriptor yX1_isShelf.desc).map (fun d => d.parameters.length) = some 1; decide +kernel⟩ hR rfl hsum hdg hf k
end CR_M_isShelf
/-! CapCouncilModel.keep (I)I -/
def M_keep_L23 (k52 : MS → Option (MS × Int32)) (a1 : Int32) : Nat → MS → Int32 → Option (MS × Int32)
  | 0, _, _ => none
  | n + 1, st, x2 =>
    if (84 : Int32) ≤ x2 then
      (k52 st)
    else
      ((bs_ld (ma st 0) 84 x2).bind fun v6 =>
      (mast st 1 252 (((84 : Int32) * a1) + x2) v6).bind fun s7 =>
      bs_let (x2 + (1 : Int32)) fun w8 =>
      M_keep_L23 k52 a1 n s7 w8)
def M_keep_J52 (a1 : Int32) (st : MS) : Option (MS × Int32) :=
  (mast st 2 3 a1 (1 : Int32)).bind fun s9 =>
  (bs_ld (ma s9 0) 84 (29 : Int32)).bind fun v10 =>
  some (s9, v10)
def M_keep (st : MS) (a1 : Int32) : Option (MS × Int32) :=
  (M_isShelf a1).bind fun v1 =>
  if v1 = 0 then
    (some (st, (-1 : Int32)))
  else
    ((bs_ld (ma st 0) 84 (0 : Int32)).bind fun v3 =>
    if v3 = 0 then
      (some (st, (-4 : Int32)))
    else
      (M_keep_L23 (M_keep_J52 a1) a1 bs_fu st (0 : Int32)))
def rm_M_keep : Room := { frames := 2, cells := 0, slots := 0, locals := 45 }
set_option maxHeartbeats 4000000 in
set_option maxRecDepth 100000 in
theorem met_M_keep (l : Launch) (D : va_G) (ct : Nat → ClassId) (h : Nat → Nat) (sz : Nat) (st : MS) (a1 : Int32) (z : (MS × Int32)) (hd : M_keep st a1 = some z) : Met l yX1_keep (ws_ yX1_keep cX1_keep 3 (some .int)) rm_M_keep (GPre gE_0 D ct (mAs h) (WM ct h st) sz [.ref (h 0), .int a1]) (GQi D (mAs h) (mAs h) (WM ct h z.1) sz z.2) 0 0 (gA (mAs h) sz) := by
  refine g_met (cc := cX1_keep) (maxL := 3) (ret := (some .int)) (by decide) (Nat.le_of_ble_eq_true rfl) ?_
  intro p e U m args below meth c ls S hr hlk hK hH hE hsz hl
  have S : CallFix p m c cX1_keep 3 U args lw_all RX1 := S
  have hx := S.1
  have hb := S.2.1
  have hl : lv_has ls 3 [(0, .ref (h 0)), (1, .int a1)] := hl
  have h52 : ∀ (st : MS) (H : Heap) (locs : List Loc) (ls : Array Slot), GH D (gA (mAs h) sz) (mAs h) U.heap (WM ct h st) H locs → lv_has ls 3 [(0, .ref (h 0)), (1, .int a1)] → M_keep_J52 a1 st = some z → W p l e rm_M_keep U m args below meth c H locs 0 0 (MQ below (GQi D (mAs h) (mAs h) (WM ct h z.1) sz z.2) args U 0 0 (gA (mAs h) sz)) (F0 m 52 ls []) := by
    intro st H locs ls hH hl hd
    unfold M_keep_J52 at hd
    refine lv_aload_n (pc := 52) hx hb dX1_keep_52 rfl (lv_at hl 0 rfl) ?_
    refine mg_isKept (pc := 53) S hK hH dX1_keep_53 ?_
    refine lv_iload_n (pc := 56) hx hb dX1_keep_56 rfl (lv_at hl 1 rfl) ?_
    refine lv_iconst (v := (1 : Int32)) (pc := 57) hx hb dX1_keep_57 (by decide) ?_
    obtain ⟨s9, hs9, hd⟩ := bs_bd hd
    refine ms_isKept (pc := 58) S hK hH rfl hs9 dX1_keep_58 (fun H locs hH => ?_)
    refine lv_aload_n (pc := 59) hx hb dX1_keep_59 rfl (lv_at hl 0 rfl) ?_
    refine mg_now (pc := 60) S hK hH dX1_keep_60 ?_
    refine lv_bipush (v := (29 : Int32)) (pc := 63) hx hb dX1_keep_63 (by decide) ?_
    obtain ⟨v10, hv10, hd⟩ := bs_bd hd
    refine ml_now (pc := 65) S hK hH hv10 dX1_keep_65 ?_
    exact g_iret (WM ct h) hd S hr hlk hH dX1_keep_66
  have h23 : ∀ (n23 : Nat) (st : MS) (x2 : Int32) (H : Heap) (locs : List Loc) (ls : Array Slot), GH D (gA (mAs h) sz) (mAs h) U.heap (WM ct h st) H locs → lv_has ls 3 [(0, .ref (h 0)), (1, .int a1), (2, .int x2)] → M_keep_L23 (M_keep_J52 a1) a1 n23 st x2 = some z → W p l e rm_M_keep U m args below meth c H locs 0 0 (MQ below (GQi D (mAs h) (mAs h) (WM ct h z.1) sz z.2) args U 0 0 (gA (mAs h) sz)) (F0 m 23 ls []) := by
    intro n23
    induction n23 with
    | zero =>
      intro st x2 H locs ls hH hl hd
      rw [M_keep_L23] at hd
      cases hd
    | succ n23 ih23 =>
      intro st x2 H locs ls hH hl hd
      rw [M_keep_L23] at hd
      refine lv_iload_n (pc := 23) hx hb dX1_keep_23 rfl (lv_at hl 2 rfl) ?_
      refine lv_bipush (v := (84 : Int32)) (pc := 24) hx hb dX1_keep_24 (by decide) ?_
      refine lv_icmp_ge (pc := 26) (tgt := 52) hx hb dX1_keep_26 (by decide) (fun c5 => ?_) (fun c5 => ?_)
      · have hd := if_t c5 hd
        exact h52 st _ _ _ hH (lv_sub hl [0, 1] rfl) hd
      · have hd := if_n c5 hd
        refine lv_aload_n (pc := 29) hx hb dX1_keep_29 rfl (lv_at hl 0 rfl) ?_
        refine mg_kept (pc := 30) S hK hH dX1_keep_30 ?_
        refine lv_bipush (v := (84 : Int32)) (pc := 33) hx hb dX1_keep_33 (by decide) ?_
        refine lv_iload_n (pc := 35) hx hb dX1_keep_35 rfl (lv_at hl 1 rfl) ?_
        refine lv_imul (pc := 36) hx hb dX1_keep_36 ?_
        refine lv_iload_n (pc := 37) hx hb dX1_keep_37 rfl (lv_at hl 2 rfl) ?_
        refine lv_iadd (pc := 38) hx hb dX1_keep_38 ?_
        refine lv_aload_n (pc := 39) hx hb dX1_keep_39 rfl (lv_at hl 0 rfl) ?_
        refine mg_now (pc := 40) S hK hH dX1_keep_40 ?_
        refine lv_iload_n (pc := 43) hx hb dX1_keep_43 rfl (lv_at hl 2 rfl) ?_
        obtain ⟨v6, hv6, hd⟩ := bs_bd hd
        refine ml_now (pc := 44) S hK hH hv6 dX1_keep_44 ?_
        obtain ⟨s7, hs7, hd⟩ := bs_bd hd
        refine ms_kept (pc := 45) S hK hH hs7 dX1_keep_45 (fun H locs hH => ?_)
        obtain ⟨w8, ew8, hd⟩ := bs_let_spec hd
        refine lv_iinc (pc := 46) (v := w8) (lv' := [(2, .int w8), (0, .ref (h 0)), (1, .int a1)]) hx hb dX1_keep_46 hl (k := 2) rfl (by rw [ew8]; rfl) (by decide) rfl (fun ls hl => ?_)
        refine lv_goto (pc := 49) (tgt := 23) hx hb dX1_keep_49 (by decide) ?_
        exact ih23 s7 w8 _ _ _ hH (lv_sub hl [1, 2, 0] rfl) hd
  unfold M_keep at hd
  refine lv_iload_n (pc := 0) hx hb dX1_keep_0 rfl (lv_at hl 1 rfl) ?_
  obtain ⟨v1, hv1, hd⟩ := bs_bd hd
  refine call_M_isShelf (pc := 1) S hl q1190 hv1 ⟨Nat.le_of_ble_eq_true rfl, Nat.le_of_ble_eq_true rfl⟩ (Nat.le_of_ble_eq_true rfl) dX1_keep_1 ⟨Nat.zero_le _, Nat.zero_le _⟩ ?_
  refine lv_if_ne (pc := 4) (tgt := 9) hx hb dX1_keep_4 (by decide) (fun c2 => ?_) (fun c2 => ?_)
  · have hd := if_n c2 hd
    refine lv_aload_n (pc := 9) hx hb dX1_keep_9 rfl (lv_at hl 0 rfl) ?_
    refine mg_now (pc := 10) S hK hH dX1_keep_10 ?_
    refine lv_iconst (v := (0 : Int32)) (pc := 13) hx hb dX1_keep_13 (by decide) ?_
    obtain ⟨v3, hv3, hd⟩ := bs_bd hd
    refine ml_now (pc := 14) S hK hH hv3 dX1_keep_14 ?_
    refine lv_if_ne (pc := 15) (tgt := 21) hx hb dX1_keep_15 (by decide) (fun c4 => ?_) (fun c4 => ?_)
    · have hd := if_n c4 hd
      refine lv_iconst (v := (0 : Int32)) (pc := 21) hx hb dX1_keep_21 (by decide) ?_
      refine lv_istore_n (pc := 22) (lv' := [(2, .int (0 : Int32)), (0, .ref (h 0)), (1, .int a1)]) hx hb dX1_keep_22 rfl hl (by decide) rfl (fun ls hl => ?_)
      exact h23 bs_fu st (0 : Int32) _ _ _ hH (lv_sub hl [1, 2, 0] rfl) hd
    · have hd := if_t c4 hd
      refine lv_bipush (v := (-4 : Int32)) (pc := 18) hx hb dX1_keep_18 (by decide) ?_
      exact g_iret (WM ct h) hd S hr hlk hH dX1_keep_20
  · have hd := if_t c2 hd
    refine lv_iconst (v := (-1 : Int32)) (pc := 7) hx hb dX1_keep_7 (by decide) ?_
    exact g_iret (WM ct h) hd S hr hlk hH dX1_keep_8
section CR_M_keep
variable {p : Program} {l : Launch} {e : Env} {R : Room} {s : State} {m : MethodId} {args : Array Value} {below : List Frame} {meth : Method} {c : Code} {H : Heap} {locs : List Loc} {cells slots : Nat} {Q : State → Prop}
variable {cc : ByteArray} {pc nL idx : Nat} {ls : Array Slot} {rest : List Value} {lv : List (Nat × Value)} {A : Nat → Prop} {H0 : Heap} {own : String}
theorem call_M_keep {D : va_G} {ct : Nat → ClassId} {h : Nat → Nat} {st : MS} {a1 : Int32} {z : (MS × Int32)} (S : CallFix p m c cc nL s args lw_all own) (hl : lv_has ls nL lv) (hK : va_K D clA (tysG ct) s) (hH : GH D A (mAs h) H0 (WM ct h st) H locs) (hlk : Cond.methodLink own idx yX1_keep ∈ lw_all) (hv : M_keep st a1 = some z) (hR : 3 ≤ R.frames ∧ 67 ≤ R.locals) (hsum : (rest.map fun v => v.category).sum ≤ 8) (hdg : decode cc pc = .ok (.invokevirtual idx, 3)) (hf : cells ≤ R.cells ∧ slots ≤ R.slots)
    (k : ∀ (H1 : Heap) (locs1 : List Loc), GH D A (mAs h) H0 (WM ct h z.1) H1 locs1 → W p l e R s m args below meth c H1 locs1 cells slots Q (F0 m (pc + 3) ls (.int z.2 :: rest))) : W p l e R s m args below meth c H locs cells slots Q (F0 m pc ls (.int a1 :: .ref (h 0) :: rest)) :=
  g_calli (av := [.int a1]) S hl gE_0_ok trivial hK hH (met_M_keep l D ct h H.size st a1 z hv) (lw_V hlk q1187 q1188 q70 q1189) rfl rfl ⟨rfl, by decide, by decide, by show (parseMethodDescriptor yX1_keep.desc).map (fun d => d.parameters.length) = some 1; decide +kernel⟩ hR (m_recv hK hH) (fun _ h => Or.inl h) rfl hsum hdg hf k
end CR_M_keep
/-! CapCouncilModel.on (I)I -/
def M_on_L26 (a1 : Int32) : Nat → MS → Int32 → Option (MS × Int32)
  | 0, _, _ => none
  | n + 1, st, x2 =>
    if (84 : Int32) ≤ x2 then
      ((bs_ld (ma st 0) 84 (29 : Int32)).bind fun v7 =>
      some (st, v7))
    else
      ((bs_ld (ma st 1) 252 (((84 : Int32) * a1) + x2)).bind fun v8 =>
      (mast st 0 84 x2 v8).bind fun s9 =>
      bs_let (x2 + (1 : Int32)) fun w10 =>
      M_on_L26 a1 n s9 w10)
def M_on (st : MS) (a1 : Int32) : Option (MS × Int32) :=
  (M_isShelf a1).bind fun v1 =>
  if v1 = 0 then
    (some (st, (-1 : Int32)))
  else
    ((bs_ld (ma st 2) 3 a1).bind fun v3 =>
    if v3 = 0 then
      ((M_finds st (1 : Int32)).bind fun q5 =>
      some (q5.1, q5.2))
    else
      (M_on_L26 a1 bs_fu st (0 : Int32)))
def rm_M_on : Room := { frames := 2, cells := 0, slots := 0, locals := 45 }
set_option maxHeartbeats 4000000 in
set_option maxRecDepth 100000 in
theorem met_M_on (l : Launch) (D : va_G) (ct : Nat → ClassId) (h : Nat → Nat) (sz : Nat) (st : MS) (a1 : Int32) (z : (MS × Int32)) (hd : M_on st a1 = some z) : Met l yX1_on (ws_ yX1_on cX1_on 3 (some .int)) rm_M_on (GPre gE_0 D ct (mAs h) (WM ct h st) sz [.ref (h 0), .int a1]) (GQi D (mAs h) (mAs h) (WM ct h z.1) sz z.2) 0 0 (gA (mAs h) sz) := by
  refine g_met (cc := cX1_on) (maxL := 3) (ret := (some .int)) (by decide) (Nat.le_of_ble_eq_true rfl) ?_
  intro p e U m args below meth c ls S hr hlk hK hH hE hsz hl
  have S : CallFix p m c cX1_on 3 U args lw_all RX1 := S
  have hx := S.1
  have hb := S.2.1
  have hl : lv_has ls 3 [(0, .ref (h 0)), (1, .int a1)] := hl
  have h26 : ∀ (n26 : Nat) (st : MS) (x2 : Int32) (H : Heap) (locs : List Loc) (ls : Array Slot), GH D (gA (mAs h) sz) (mAs h) U.heap (WM ct h st) H locs → lv_has ls 3 [(0, .ref (h 0)), (1, .int a1), (2, .int x2)] → M_on_L26 a1 n26 st x2 = some z → W p l e rm_M_on U m args below meth c H locs 0 0 (MQ below (GQi D (mAs h) (mAs h) (WM ct h z.1) sz z.2) args U 0 0 (gA (mAs h) sz)) (F0 m 26 ls []) := by
    intro n26
    induction n26 with
    | zero =>
      intro st x2 H locs ls hH hl hd
      rw [M_on_L26] at hd
      cases hd
    | succ n26 ih26 =>
      intro st x2 H locs ls hH hl hd
      rw [M_on_L26] at hd
      refine lv_iload_n (pc := 26) hx hb dX1_on_26 rfl (lv_at hl 2 rfl) ?_
      refine lv_bipush (v := (84 : Int32)) (pc := 27) hx hb dX1_on_27 (by decide) ?_
      refine lv_icmp_ge (pc := 29) (tgt := 55) hx hb dX1_on_29 (by decide) (fun c6 => ?_) (fun c6 => ?_)
      · have hd := if_t c6 hd
        refine lv_aload_n (pc := 55) hx hb dX1_on_55 rfl (lv_at hl 0 rfl) ?_
        refine mg_now (pc := 56) S hK hH dX1_on_56 ?_
        refine lv_bipush (v := (29 : Int32)) (pc := 59) hx hb dX1_on_59 (by decide) ?_
        obtain ⟨v7, hv7, hd⟩ := bs_bd hd
        refine ml_now (pc := 61) S hK hH hv7 dX1_on_61 ?_
        exact g_iret (WM ct h) hd S hr hlk hH dX1_on_62
      · have hd := if_n c6 hd
        refine lv_aload_n (pc := 32) hx hb dX1_on_32 rfl (lv_at hl 0 rfl) ?_
        refine mg_now (pc := 33) S hK hH dX1_on_33 ?_
        refine lv_iload_n (pc := 36) hx hb dX1_on_36 rfl (lv_at hl 2 rfl) ?_
        refine lv_aload_n (pc := 37) hx hb dX1_on_37 rfl (lv_at hl 0 rfl) ?_
        refine mg_kept (pc := 38) S hK hH dX1_on_38 ?_
        refine lv_bipush (v := (84 : Int32)) (pc := 41) hx hb dX1_on_41 (by decide) ?_
        refine lv_iload_n (pc := 43) hx hb dX1_on_43 rfl (lv_at hl 1 rfl) ?_
        refine lv_imul (pc := 44) hx hb dX1_on_44 ?_
        refine lv_iload_n (pc := 45) hx hb dX1_on_45 rfl (lv_at hl 2 rfl) ?_
        refine lv_iadd (pc := 46) hx hb dX1_on_46 ?_
        obtain ⟨v8, hv8, hd⟩ := bs_bd hd
        refine ml_kept (pc := 47) S hK hH hv8 dX1_on_47 ?_
        obtain ⟨s9, hs9, hd⟩ := bs_bd hd
        refine ms_now (pc := 48) S hK hH hs9 dX1_on_48 (fun H locs hH => ?_)
        obtain ⟨w10, ew10, hd⟩ := bs_let_spec hd
        refine lv_iinc (pc := 49) (v := w10) (lv' := [(2, .int w10), (0, .ref (h 0)), (1, .int a1)]) hx hb dX1_on_49 hl (k := 2) rfl (by rw [ew10]; rfl) (by decide) rfl (fun ls hl => ?_)
        refine lv_goto (pc := 52) (tgt := 26) hx hb dX1_on_52 (by decide) ?_
        exact ih26 s9 w10 _ _ _ hH (lv_sub hl [1, 2, 0] rfl) hd
  unfold M_on at hd
  refine lv_iload_n (pc := 0) hx hb dX1_on_0 rfl (lv_at hl 1 rfl) ?_
  obtain ⟨v1, hv1, hd⟩ := bs_bd hd
  refine call_M_isShelf (pc := 1) S hl q1190 hv1 ⟨Nat.le_of_ble_eq_true rfl, Nat.le_of_ble_eq_true rfl⟩ (Nat.le_of_ble_eq_true rfl) dX1_on_1 ⟨Nat.zero_le _, Nat.zero_le _⟩ ?_
  refine lv_if_ne (pc := 4) (tgt := 9) hx hb dX1_on_4 (by decide) (fun c2 => ?_) (fun c2 => ?_)
  · have hd := if_n c2 hd
    refine lv_aload_n (pc := 9) hx hb dX1_on_9 rfl (lv_at hl 0 rfl) ?_
    refine mg_isKept (pc := 10) S hK hH dX1_on_10 ?_
    refine lv_iload_n (pc := 13) hx hb dX1_on_13 rfl (lv_at hl 1 rfl) ?_
    obtain ⟨v3, hv3, hd⟩ := bs_bd hd
    refine ml_isKept (pc := 14) S hK hH hv3 dX1_on_14 ?_
    refine lv_if_ne (pc := 15) (tgt := 24) hx hb dX1_on_15 (by decide) (fun c4 => ?_) (fun c4 => ?_)
    · have hd := if_n c4 hd
      refine lv_iconst (v := (0 : Int32)) (pc := 24) hx hb dX1_on_24 (by decide) ?_
      refine lv_istore_n (pc := 25) (lv' := [(2, .int (0 : Int32)), (0, .ref (h 0)), (1, .int a1)]) hx hb dX1_on_25 rfl hl (by decide) rfl (fun ls hl => ?_)
      exact h26 bs_fu st (0 : Int32) _ _ _ hH (lv_sub hl [1, 2, 0] rfl) hd
    · have hd := if_t c4 hd
      refine lv_aload_n (pc := 18) hx hb dX1_on_18 rfl (lv_at hl 0 rfl) ?_
      refine lv_iconst (v := (1 : Int32)) (pc := 19) hx hb dX1_on_19 (by decide) ?_
      obtain ⟨q5, hq5, hd⟩ := bs_bd hd
      refine call_M_finds (pc := 20) S hl hK hH q977 hq5 ⟨Nat.le_of_ble_eq_true rfl, Nat.le_of_ble_eq_true rfl⟩ (Nat.le_of_ble_eq_true rfl) dX1_on_20 ⟨Nat.zero_le _, Nat.zero_le _⟩ (fun H locs hH => ?_)
      exact g_iret (WM ct h) hd S hr hlk hH dX1_on_23
  · have hd := if_t c2 hd
    refine lv_iconst (v := (-1 : Int32)) (pc := 7) hx hb dX1_on_7 (by decide) ?_
    exact g_iret (WM ct h) hd S hr hlk hH dX1_on_8
section CR_M_on
variable {p : Program} {l : Launch} {e : Env} {R : Room} {s : State} {m : MethodId} {args : Array Value} {below : List Frame} {meth : Method} {c : Code} {H : Heap} {locs : List Loc} {cells slots : Nat} {Q : State → Prop}
variable {cc : ByteArray} {pc nL idx : Nat} {ls : Array Slot} {rest : List Value} {lv : List (Nat × Value)} {A : Nat → Prop} {H0 : Heap} {own : String}
theorem call_M_on {D : va_G} {ct : Nat → ClassId} {h : Nat → Nat} {st : MS} {a1 : Int32} {z : (MS × Int32)} (S : CallFix p m c cc nL s args lw_all own) (hl : lv_has ls nL lv) (hK : va_K D clA (tysG ct) s) (hH : GH D A (mAs h) H0 (WM ct h st) H locs) (hlk : Cond.methodLink own idx yX1_on ∈ lw_all) (hv : M_on st a1 = some z) (hR : 3 ≤ R.frames ∧ 67 ≤ R.locals) (hsum : (rest.map fun v => v.category).sum ≤ 8) (hdg : decode cc pc = .ok (.invokevirtual idx, 3)) (hf : cells ≤ R.cells ∧ slots ≤ R.slots)
    (k : ∀ (H1 : Heap) (locs1 : List Loc), GH D A (mAs h) H0 (WM ct h z.1) H1 locs1 → W p l e R s m args below meth c H1 locs1 cells slots Q (F0 m (pc + 3) ls (.int z.2 :: rest))) : W p l e R s m args below meth c H locs cells slots Q (F0 m pc ls (.int a1 :: .ref (h 0) :: rest)) :=
  g_calli (av := [.int a1]) S hl gE_0_ok trivial hK hH (met_M_on l D ct h H.size st a1 z hv) (lw_V hlk q1194 q1195 q70 q1196) rfl rfl ⟨rfl, by decide, by decide, by show (parseMethodDescriptor yX1_on.desc).map (fun d => d.parameters.length) = some 1; decide +kernel⟩ hR (m_recv hK hH) (fun _ h => Or.inl h) rfl hsum hdg hf k
end CR_M_on
/-! CapCouncilModel.sits (I)I -/
def M_sits_L30 (st : MS) (a1 : Int32) : Nat → Int32 → Int32 → Option Int32
  | 0, _, _ => none
  | n + 1, x2, x3 =>
    (bs_ld (ma st 0) 84 (1 : Int32)).bind fun v5 =>
    if v5 ≤ x3 then
      (some x2)
    else
      ((M_ringsOf st x3).bind fun v7 =>
      (M_bits v7).bind fun v8 =>
      if v8 < a1 then
        (bs_let (x2 ||| (0 : Int32)) fun w10 =>
        bs_let (x3 + (1 : Int32)) fun w11 =>
        M_sits_L30 st a1 n w10 w11)
      else
        (bs_let (x2 ||| ((1 : Int32) <<< (x3 &&& 31))) fun w12 =>
        bs_let (x3 + (1 : Int32)) fun w13 =>
        M_sits_L30 st a1 n w12 w13))
def M_sits (st : MS) (a1 : Int32) : Option Int32 :=
  (M_in (a1.toInt64) (0 : Int64) (5 : Int64)).bind fun v1 =>
  if v1 = 0 then
    (some (-1 : Int32))
  else
    ((bs_ld (ma st 0) 84 (0 : Int32)).bind fun v3 =>
    if v3 = 0 then
      (some (-4 : Int32))
    else
      (M_sits_L30 st a1 bs_fu (0 : Int32) (0 : Int32)))
def rm_M_sits : Room := { frames := 5, cells := 0, slots := 0, locals := 119 }
set_option maxHeartbeats 4000000 in
set_option maxRecDepth 100000 in
theorem met_M_sits (l : Launch) (D : va_G) (ct : Nat → ClassId) (h : Nat → Nat) (sz : Nat) (st : MS) (a1 : Int32) (z : Int32) (hd : M_sits st a1 = some z) : Met l yX1_sits (ws_ yX1_sits cX1_sits 4 (some .int)) rm_M_sits (GPre gE_0 D ct (mAs h) (WM ct h st) sz [.ref (h 0), .int a1]) (vp_Si (fun r => r = z)) 0 0 (fun _ => False) := by
  refine g_met (cc := cX1_sits) (maxL := 4) (ret := (some .int)) (by decide) (Nat.le_of_ble_eq_true rfl) ?_
  intro p e U m args below meth c ls S hr hlk hK hH hE hsz hl
  have S : CallFix p m c cX1_sits 4 U args lw_all RX1 := S
  have hx := S.1
  have hb := S.2.1
  have hl : lv_has ls 4 [(0, .ref (h 0)), (1, .int a1)] := hl
  have h30 : ∀ (n30 : Nat) (x2 : Int32) (x3 : Int32) (ls : Array Slot), lv_has ls 4 [(0, .ref (h 0)), (1, .int a1), (2, .int x2), (3, .int x3)] → M_sits_L30 st a1 n30 x2 x3 = some z → W p l e rm_M_sits U m args below meth c U.heap [] 0 0 (MQ below (vp_Si (fun r => r = z)) args U 0 0 (fun _ => False)) (F0 m 30 ls []) := by
    intro n30
    induction n30 with
    | zero =>
      intro x2 x3 ls hl hd
      rw [M_sits_L30] at hd
      cases hd
    | succ n30 ih30 =>
      intro x2 x3 ls hl hd
      rw [M_sits_L30] at hd
      refine lv_iload_n (pc := 30) hx hb dX1_sits_30 rfl (lv_at hl 3 rfl) ?_
      refine lv_aload_n (pc := 31) hx hb dX1_sits_31 rfl (lv_at hl 0 rfl) ?_
      refine mg_now (pc := 32) S hK hH dX1_sits_32 ?_
      refine lv_iconst (v := (1 : Int32)) (pc := 35) hx hb dX1_sits_35 (by decide) ?_
      obtain ⟨v5, hv5, hd⟩ := bs_bd hd
      refine ml_now (pc := 36) S hK hH hv5 dX1_sits_36 ?_
      refine lv_icmp_ge (pc := 37) (tgt := 68) hx hb dX1_sits_37 (by decide) (fun c6 => ?_) (fun c6 => ?_)
      · have hd := if_t c6 hd
        refine lv_iload_n (pc := 68) hx hb dX1_sits_68 rfl (lv_at hl 2 rfl) ?_
        exact r_iret hd S hr hlk dX1_sits_69
      · have hd := if_n c6 hd
        refine lv_iload_n (pc := 40) hx hb dX1_sits_40 rfl (lv_at hl 2 rfl) ?_
        refine lv_aload_n (pc := 41) hx hb dX1_sits_41 rfl (lv_at hl 0 rfl) ?_
        refine lv_iload_n (pc := 42) hx hb dX1_sits_42 rfl (lv_at hl 3 rfl) ?_
        obtain ⟨v7, hv7, hd⟩ := bs_bd hd
        refine call_M_ringsOf (pc := 43) S hl hK hH q1112 hv7 ⟨Nat.le_of_ble_eq_true rfl, Nat.le_of_ble_eq_true rfl⟩ (Nat.le_of_ble_eq_true rfl) dX1_sits_43 ⟨Nat.zero_le _, Nat.zero_le _⟩ ?_
        obtain ⟨v8, hv8, hd⟩ := bs_bd hd
        refine call_M_bits (pc := 46) S hl q1158 hv8 ⟨Nat.le_of_ble_eq_true rfl, Nat.le_of_ble_eq_true rfl⟩ (Nat.le_of_ble_eq_true rfl) dX1_sits_46 ⟨Nat.zero_le _, Nat.zero_le _⟩ ?_
        refine lv_iload_n (pc := 49) hx hb dX1_sits_49 rfl (lv_at hl 1 rfl) ?_
        refine lv_icmp_lt (pc := 50) (tgt := 59) hx hb dX1_sits_50 (by decide) (fun c9 => ?_) (fun c9 => ?_)
        · have hd := if_t c9 hd
          refine lv_iconst (v := (0 : Int32)) (pc := 59) hx hb dX1_sits_59 (by decide) ?_
          refine lv_ior (pc := 60) hx hb dX1_sits_60 ?_
          obtain ⟨w10, ew10, hd⟩ := bs_let_spec hd
          refine lv_topE (pc := 61) ew10 ?_
          refine lv_istore_n (pc := 61) (lv' := [(2, .int w10), (0, .ref (h 0)), (1, .int a1), (3, .int x3)]) hx hb dX1_sits_61 rfl hl (by decide) rfl (fun ls hl => ?_)
          obtain ⟨w11, ew11, hd⟩ := bs_let_spec hd
          refine lv_iinc (pc := 62) (v := w11) (lv' := [(3, .int w11), (2, .int w10), (0, .ref (h 0)), (1, .int a1)]) hx hb dX1_sits_62 hl (k := 3) rfl (by rw [ew11]; rfl) (by decide) rfl (fun ls hl => ?_)
          refine lv_goto (pc := 65) (tgt := 30) hx hb dX1_sits_65 (by decide) ?_
          exact ih30 w10 w11 _ (lv_sub hl [2, 3, 1, 0] rfl) hd
        · have hd := if_n c9 hd
          refine lv_iconst (v := (1 : Int32)) (pc := 53) hx hb dX1_sits_53 (by decide) ?_
          refine lv_iload_n (pc := 54) hx hb dX1_sits_54 rfl (lv_at hl 3 rfl) ?_
          refine lv_ishl (pc := 55) hx hb dX1_sits_55 ?_
          refine lv_goto (pc := 56) (tgt := 60) hx hb dX1_sits_56 (by decide) ?_
          refine lv_ior (pc := 60) hx hb dX1_sits_60 ?_
          obtain ⟨w12, ew12, hd⟩ := bs_let_spec hd
          refine lv_topE (pc := 61) ew12 ?_
          refine lv_istore_n (pc := 61) (lv' := [(2, .int w12), (0, .ref (h 0)), (1, .int a1), (3, .int x3)]) hx hb dX1_sits_61 rfl hl (by decide) rfl (fun ls hl => ?_)
          obtain ⟨w13, ew13, hd⟩ := bs_let_spec hd
          refine lv_iinc (pc := 62) (v := w13) (lv' := [(3, .int w13), (2, .int w12), (0, .ref (h 0)), (1, .int a1)]) hx hb dX1_sits_62 hl (k := 3) rfl (by rw [ew13]; rfl) (by decide) rfl (fun ls hl => ?_)
          refine lv_goto (pc := 65) (tgt := 30) hx hb dX1_sits_65 (by decide) ?_
          exact ih30 w12 w13 _ (lv_sub hl [2, 3, 1, 0] rfl) hd
  unfold M_sits at hd
  refine lv_iload_n (pc := 0) hx hb dX1_sits_0 rfl (lv_at hl 1 rfl) ?_
  refine lv_i2l (pc := 1) hx hb dX1_sits_1 rfl ?_
  refine lv_lconst (v := (0 : Int64)) (pc := 2) hx hb dX1_sits_2 (by decide) ?_
  refine lv_ldc2 (pc := 3) (own := RX1) (v := (5 : Int64)) hx hb S.2.2.2.1 (S.2.2.2.2 _ q973) dX1_sits_3 ?_
  obtain ⟨v1, hv1, hd⟩ := bs_bd hd
  refine call_M_in (pc := 6) S hl q974 hv1 ⟨Nat.le_of_ble_eq_true rfl, Nat.le_of_ble_eq_true rfl⟩ (Nat.le_of_ble_eq_true rfl) dX1_sits_6 ⟨Nat.zero_le _, Nat.zero_le _⟩ ?_
  refine lv_if_ne (pc := 9) (tgt := 14) hx hb dX1_sits_9 (by decide) (fun c2 => ?_) (fun c2 => ?_)
  · have hd := if_n c2 hd
    refine lv_aload_n (pc := 14) hx hb dX1_sits_14 rfl (lv_at hl 0 rfl) ?_
    refine mg_now (pc := 15) S hK hH dX1_sits_15 ?_
    refine lv_iconst (v := (0 : Int32)) (pc := 18) hx hb dX1_sits_18 (by decide) ?_
    obtain ⟨v3, hv3, hd⟩ := bs_bd hd
    refine ml_now (pc := 19) S hK hH hv3 dX1_sits_19 ?_
    refine lv_if_ne (pc := 20) (tgt := 26) hx hb dX1_sits_20 (by decide) (fun c4 => ?_) (fun c4 => ?_)
    · have hd := if_n c4 hd
      refine lv_iconst (v := (0 : Int32)) (pc := 26) hx hb dX1_sits_26 (by decide) ?_
      refine lv_istore_n (pc := 27) (lv' := [(2, .int (0 : Int32)), (0, .ref (h 0)), (1, .int a1)]) hx hb dX1_sits_27 rfl hl (by decide) rfl (fun ls hl => ?_)
      refine lv_iconst (v := (0 : Int32)) (pc := 28) hx hb dX1_sits_28 (by decide) ?_
      refine lv_istore_n (pc := 29) (lv' := [(3, .int (0 : Int32)), (2, .int (0 : Int32)), (0, .ref (h 0)), (1, .int a1)]) hx hb dX1_sits_29 rfl hl (by decide) rfl (fun ls hl => ?_)
      exact h30 bs_fu (0 : Int32) (0 : Int32) _ (lv_sub hl [2, 3, 1, 0] rfl) hd
    · have hd := if_t c4 hd
      refine lv_bipush (v := (-4 : Int32)) (pc := 23) hx hb dX1_sits_23 (by decide) ?_
      exact r_iret hd S hr hlk dX1_sits_25
  · have hd := if_t c2 hd
    refine lv_iconst (v := (-1 : Int32)) (pc := 12) hx hb dX1_sits_12 (by decide) ?_
    exact r_iret hd S hr hlk dX1_sits_13
section CR_M_sits
variable {p : Program} {l : Launch} {e : Env} {R : Room} {s : State} {m : MethodId} {args : Array Value} {below : List Frame} {meth : Method} {c : Code} {H : Heap} {locs : List Loc} {cells slots : Nat} {Q : State → Prop}
variable {cc : ByteArray} {pc nL idx : Nat} {ls : Array Slot} {rest : List Value} {lv : List (Nat × Value)} {A : Nat → Prop} {H0 : Heap} {own : String}
theorem call_M_sits {D : va_G} {ct : Nat → ClassId} {h : Nat → Nat} {st : MS} {a1 : Int32} {z : Int32} (S : CallFix p m c cc nL s args lw_all own) (hl : lv_has ls nL lv) (hK : va_K D clA (tysG ct) s) (hH : GH D A (mAs h) H0 (WM ct h st) H locs) (hlk : Cond.methodLink own idx yX1_sits ∈ lw_all) (hv : M_sits st a1 = some z) (hR : 6 ≤ R.frames ∧ 142 ≤ R.locals) (hsum : (rest.map fun v => v.category).sum ≤ 8) (hdg : decode cc pc = .ok (.invokevirtual idx, 3)) (hf : cells ≤ R.cells ∧ slots ≤ R.slots)
    (k : W p l e R s m args below meth c H locs cells slots Q (F0 m (pc + 3) ls (.int z :: rest))) : W p l e R s m args below meth c H locs cells slots Q (F0 m pc ls (.int a1 :: .ref (h 0) :: rest)) :=
  r_calli (av := [.int a1]) S hl gE_0_ok trivial hK hH (met_M_sits l D ct h H.size st a1 z hv) (lw_V hlk q1198 q1199 q70 q1200) rfl rfl ⟨rfl, by decide, by decide, by show (parseMethodDescriptor yX1_sits.desc).map (fun d => d.parameters.length) = some 1; decide +kernel⟩ hR (m_recv hK hH) rfl hsum hdg hf k
end CR_M_sits
