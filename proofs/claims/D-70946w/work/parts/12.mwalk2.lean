set_option maxRecDepth 100000
/-! CapCouncilModel.common (I)I -/
def M_common_L30 (k75 : MS → Int32 → Int32 → Option (MS × Int32)) (a1 : Int32) : Nat → MS → Int32 → Int32 → Int32 → Option (MS × Int32)
  | 0, _, _, _, _ => none
  | n + 1, st, x2, x3, x4 =>
    if (100 : Int32) ≤ x4 then
      (k75 st x2 x3)
    else
      ((bs_ld (ma st 0) 84 (70 : Int32)).bind fun v5 =>
      (M_ringsAt st x4 a1 v5).bind fun v6 =>
      if v6 = a1 then
        (if x2 = 0 then
          (bs_let (x2 + (1 : Int32)) fun w12 =>
          bs_let (x4 + (1 : Int32)) fun w13 =>
          M_common_L30 k75 a1 n st w12 x4 w13)
        else
          (bs_let (x2 + (1 : Int32)) fun w10 =>
          bs_let (x4 + (1 : Int32)) fun w11 =>
          M_common_L30 k75 a1 n st w10 x3 w11))
      else
        (bs_let (x4 + (1 : Int32)) fun w8 =>
        M_common_L30 k75 a1 n st x2 x3 w8))
def M_common_J75 (a1 : Int32) (st : MS) (x2 : Int32) (x3 : Int32) : Option (MS × Int32) :=
  if x2 = 0 then
    (some (st, x2))
  else
    ((M_asks st x3).bind fun q15 =>
    some (q15.1, x2))
def M_common (st : MS) (a1 : Int32) : Option (MS × Int32) :=
  (bs_ld (ma st 0) 84 (0 : Int32)).bind fun v1 =>
  (M_in (a1.toInt64) (0 : Int64) (((((1 : Int32) <<< (v1 &&& 31)) - (1 : Int32))).toInt64)).bind fun v2 =>
  if v2 = 0 then
    (some (st, (-1 : Int32)))
  else
    (M_common_L30 (M_common_J75 a1) a1 bs_fu st (0 : Int32) (-9 : Int32) (0 : Int32))
def rm_M_common : Room := { frames := 4, cells := 0, slots := 0, locals := 98 }
set_option maxHeartbeats 4000000 in
set_option maxRecDepth 100000 in
theorem met_M_common (l : Launch) (D : va_G) (ct : Nat → ClassId) (h : Nat → Nat) (sz : Nat) (st : MS) (a1 : Int32) (z : (MS × Int32)) (hd : M_common st a1 = some z) : Met l yX1_common (ws_ yX1_common cX1_common 5 (some .int)) rm_M_common (GPre gE_0 D ct (mAs h) (WM ct h st) sz [.ref (h 0), .int a1]) (GQi D (mAs h) (mAs h) (WM ct h z.1) sz z.2) 0 0 (gA (mAs h) sz) := by
  refine g_met (cc := cX1_common) (maxL := 5) (ret := (some .int)) (by decide) (Nat.le_of_ble_eq_true rfl) ?_
  intro p e U m args below meth c ls S hr hlk hK hH hE hsz hl
  have S : CallFix p m c cX1_common 5 U args lw_all RX1 := S
  have hx := S.1
  have hb := S.2.1
  have hl : lv_has ls 5 [(0, .ref (h 0)), (1, .int a1)] := hl
  have h75 : ∀ (st : MS) (x2 : Int32) (x3 : Int32) (H : Heap) (locs : List Loc) (ls : Array Slot), GH D (gA (mAs h) sz) (mAs h) U.heap (WM ct h st) H locs → lv_has ls 5 [(0, .ref (h 0)), (1, .int a1), (2, .int x2), (3, .int x3)] → M_common_J75 a1 st x2 x3 = some z → W p l e rm_M_common U m args below meth c H locs 0 0 (MQ below (GQi D (mAs h) (mAs h) (WM ct h z.1) sz z.2) args U 0 0 (gA (mAs h) sz)) (F0 m 75 ls []) := by
    intro st x2 x3 H locs ls hH hl hd
    unfold M_common_J75 at hd
    refine lv_iload_n (pc := 75) hx hb dX1_common_75 rfl (lv_at hl 2 rfl) ?_
    refine lv_if_ne (pc := 76) (tgt := 83) hx hb dX1_common_76 (by decide) (fun c14 => ?_) (fun c14 => ?_)
    · have hd := if_n c14 hd
      refine lv_aload_n (pc := 83) hx hb dX1_common_83 rfl (lv_at hl 0 rfl) ?_
      refine lv_iload_n (pc := 84) hx hb dX1_common_84 rfl (lv_at hl 3 rfl) ?_
      obtain ⟨q15, hq15, hd⟩ := bs_bd hd
      refine call_M_asks (pc := 85) S hl hK hH q989 hq15 ⟨Nat.le_of_ble_eq_true rfl, Nat.le_of_ble_eq_true rfl⟩ (Nat.le_of_ble_eq_true rfl) dX1_common_85 ⟨Nat.zero_le _, Nat.zero_le _⟩ (fun H locs hH => ?_)
      refine lv_istore (pc := 88) (lv' := [(4, .int q15.2), (0, .ref (h 0)), (1, .int a1), (2, .int x2), (3, .int x3)]) hx hb dX1_common_88 hl (by decide) rfl (fun ls hl => ?_)
      refine lv_iload_n (pc := 90) hx hb dX1_common_90 rfl (lv_at hl 3 rfl) ?_
      exact g_iret (WM ct h) hd S hr hlk hH dX1_common_91
    · have hd := if_t c14 hd
      refine lv_iconst (v := (0 : Int32)) (pc := 79) hx hb dX1_common_79 (by decide) ?_
      refine lv_goto (pc := 80) (tgt := 88) hx hb dX1_common_80 (by decide) ?_
      refine lv_istore (pc := 88) (lv' := [(4, .int (0 : Int32)), (0, .ref (h 0)), (1, .int a1), (2, .int x2), (3, .int x3)]) hx hb dX1_common_88 hl (by decide) rfl (fun ls hl => ?_)
      refine lv_iload_n (pc := 90) hx hb dX1_common_90 rfl (lv_at hl 3 rfl) ?_
      exact g_iret (WM ct h) hd S hr hlk hH dX1_common_91
  have h30 : ∀ (n30 : Nat) (st : MS) (x2 : Int32) (x3 : Int32) (x4 : Int32) (H : Heap) (locs : List Loc) (ls : Array Slot), GH D (gA (mAs h) sz) (mAs h) U.heap (WM ct h st) H locs → lv_has ls 5 [(0, .ref (h 0)), (1, .int a1), (2, .int x2), (3, .int x3), (4, .int x4)] → M_common_L30 (M_common_J75 a1) a1 n30 st x2 x3 x4 = some z → W p l e rm_M_common U m args below meth c H locs 0 0 (MQ below (GQi D (mAs h) (mAs h) (WM ct h z.1) sz z.2) args U 0 0 (gA (mAs h) sz)) (F0 m 30 ls []) := by
    intro n30
    induction n30 with
    | zero =>
      intro st x2 x3 x4 H locs ls hH hl hd
      rw [M_common_L30] at hd
      cases hd
    | succ n30 ih30 =>
      intro st x2 x3 x4 H locs ls hH hl hd
      rw [M_common_L30] at hd
      refine lv_iload (pc := 30) hx hb dX1_common_30 (lv_at hl 4 rfl) ?_
      refine lv_bipush (v := (100 : Int32)) (pc := 32) hx hb dX1_common_32 (by decide) ?_
      refine lv_icmp_ge (pc := 34) (tgt := 75) hx hb dX1_common_34 (by decide) (fun c4 => ?_) (fun c4 => ?_)
      · have hd := if_t c4 hd
        exact h75 st x2 x3 _ _ _ hH (lv_sub hl [0, 1, 2, 3] rfl) hd
      · have hd := if_n c4 hd
        refine lv_aload_n (pc := 37) hx hb dX1_common_37 rfl (lv_at hl 0 rfl) ?_
        refine lv_iload (pc := 38) hx hb dX1_common_38 (lv_at hl 4 rfl) ?_
        refine lv_iload_n (pc := 40) hx hb dX1_common_40 rfl (lv_at hl 1 rfl) ?_
        refine lv_aload_n (pc := 41) hx hb dX1_common_41 rfl (lv_at hl 0 rfl) ?_
        refine mg_now (pc := 42) S hK hH dX1_common_42 ?_
        refine lv_bipush (v := (70 : Int32)) (pc := 45) hx hb dX1_common_45 (by decide) ?_
        obtain ⟨v5, hv5, hd⟩ := bs_bd hd
        refine ml_now (pc := 47) S hK hH hv5 dX1_common_47 ?_
        obtain ⟨v6, hv6, hd⟩ := bs_bd hd
        refine call_M_ringsAt (pc := 48) S hl hK hH q1116 hv6 ⟨Nat.le_of_ble_eq_true rfl, Nat.le_of_ble_eq_true rfl⟩ (Nat.le_of_ble_eq_true rfl) dX1_common_48 ⟨Nat.zero_le _, Nat.zero_le _⟩ ?_
        refine lv_iload_n (pc := 51) hx hb dX1_common_51 rfl (lv_at hl 1 rfl) ?_
        refine lv_icmp_ne (pc := 52) (tgt := 69) hx hb dX1_common_52 (by decide) (fun c7 => ?_) (fun c7 => ?_)
        · have hd := if_n c7 hd
          obtain ⟨w8, ew8, hd⟩ := bs_let_spec hd
          refine lv_iinc (pc := 69) (v := w8) (lv' := [(4, .int w8), (0, .ref (h 0)), (1, .int a1), (2, .int x2), (3, .int x3)]) hx hb dX1_common_69 hl (k := 4) rfl (by rw [ew8]; rfl) (by decide) rfl (fun ls hl => ?_)
          refine lv_goto (pc := 72) (tgt := 30) hx hb dX1_common_72 (by decide) ?_
          exact ih30 st x2 x3 w8 _ _ _ hH (lv_sub hl [1, 2, 3, 4, 0] rfl) hd
        · have hd := if_t c7 hd
          refine lv_iload_n (pc := 55) hx hb dX1_common_55 rfl (lv_at hl 2 rfl) ?_
          refine lv_if_ne (pc := 56) (tgt := 64) hx hb dX1_common_56 (by decide) (fun c9 => ?_) (fun c9 => ?_)
          · have hd := if_n c9 hd
            refine lv_iload_n (pc := 64) hx hb dX1_common_64 rfl (lv_at hl 3 rfl) ?_
            refine lv_istore_n (pc := 65) (lv' := [(3, .int x3), (0, .ref (h 0)), (1, .int a1), (2, .int x2), (4, .int x4)]) hx hb dX1_common_65 rfl hl (by decide) rfl (fun ls hl => ?_)
            obtain ⟨w10, ew10, hd⟩ := bs_let_spec hd
            refine lv_iinc (pc := 66) (v := w10) (lv' := [(2, .int w10), (3, .int x3), (0, .ref (h 0)), (1, .int a1), (4, .int x4)]) hx hb dX1_common_66 hl (k := 3) rfl (by rw [ew10]; rfl) (by decide) rfl (fun ls hl => ?_)
            obtain ⟨w11, ew11, hd⟩ := bs_let_spec hd
            refine lv_iinc (pc := 69) (v := w11) (lv' := [(4, .int w11), (2, .int w10), (3, .int x3), (0, .ref (h 0)), (1, .int a1)]) hx hb dX1_common_69 hl (k := 4) rfl (by rw [ew11]; rfl) (by decide) rfl (fun ls hl => ?_)
            refine lv_goto (pc := 72) (tgt := 30) hx hb dX1_common_72 (by decide) ?_
            exact ih30 st w10 x3 w11 _ _ _ hH (lv_sub hl [3, 4, 1, 2, 0] rfl) hd
          · have hd := if_t c9 hd
            refine lv_iload (pc := 59) hx hb dX1_common_59 (lv_at hl 4 rfl) ?_
            refine lv_goto (pc := 61) (tgt := 65) hx hb dX1_common_61 (by decide) ?_
            refine lv_istore_n (pc := 65) (lv' := [(3, .int x4), (0, .ref (h 0)), (1, .int a1), (2, .int x2), (4, .int x4)]) hx hb dX1_common_65 rfl hl (by decide) rfl (fun ls hl => ?_)
            obtain ⟨w12, ew12, hd⟩ := bs_let_spec hd
            refine lv_iinc (pc := 66) (v := w12) (lv' := [(2, .int w12), (3, .int x4), (0, .ref (h 0)), (1, .int a1), (4, .int x4)]) hx hb dX1_common_66 hl (k := 3) rfl (by rw [ew12]; rfl) (by decide) rfl (fun ls hl => ?_)
            obtain ⟨w13, ew13, hd⟩ := bs_let_spec hd
            refine lv_iinc (pc := 69) (v := w13) (lv' := [(4, .int w13), (2, .int w12), (3, .int x4), (0, .ref (h 0)), (1, .int a1)]) hx hb dX1_common_69 hl (k := 4) rfl (by rw [ew13]; rfl) (by decide) rfl (fun ls hl => ?_)
            refine lv_goto (pc := 72) (tgt := 30) hx hb dX1_common_72 (by decide) ?_
            exact ih30 st w12 x4 w13 _ _ _ hH (lv_sub hl [3, 4, 1, 2, 0] rfl) hd
  unfold M_common at hd
  refine lv_iload_n (pc := 0) hx hb dX1_common_0 rfl (lv_at hl 1 rfl) ?_
  refine lv_i2l (pc := 1) hx hb dX1_common_1 rfl ?_
  refine lv_lconst (v := (0 : Int64)) (pc := 2) hx hb dX1_common_2 (by decide) ?_
  refine lv_iconst (v := (1 : Int32)) (pc := 3) hx hb dX1_common_3 (by decide) ?_
  refine lv_aload_n (pc := 4) hx hb dX1_common_4 rfl (lv_at hl 0 rfl) ?_
  refine mg_now (pc := 5) S hK hH dX1_common_5 ?_
  refine lv_iconst (v := (0 : Int32)) (pc := 8) hx hb dX1_common_8 (by decide) ?_
  obtain ⟨v1, hv1, hd⟩ := bs_bd hd
  refine ml_now (pc := 9) S hK hH hv1 dX1_common_9 ?_
  refine lv_ishl (pc := 10) hx hb dX1_common_10 ?_
  refine lv_iconst (v := (1 : Int32)) (pc := 11) hx hb dX1_common_11 (by decide) ?_
  refine lv_isub (pc := 12) hx hb dX1_common_12 ?_
  refine lv_i2l (pc := 13) hx hb dX1_common_13 rfl ?_
  obtain ⟨v2, hv2, hd⟩ := bs_bd hd
  refine call_M_in (pc := 14) S hl q974 hv2 ⟨Nat.le_of_ble_eq_true rfl, Nat.le_of_ble_eq_true rfl⟩ (Nat.le_of_ble_eq_true rfl) dX1_common_14 ⟨Nat.zero_le _, Nat.zero_le _⟩ ?_
  refine lv_if_ne (pc := 17) (tgt := 22) hx hb dX1_common_17 (by decide) (fun c3 => ?_) (fun c3 => ?_)
  · have hd := if_n c3 hd
    refine lv_iconst (v := (0 : Int32)) (pc := 22) hx hb dX1_common_22 (by decide) ?_
    refine lv_istore_n (pc := 23) (lv' := [(2, .int (0 : Int32)), (0, .ref (h 0)), (1, .int a1)]) hx hb dX1_common_23 rfl hl (by decide) rfl (fun ls hl => ?_)
    refine lv_bipush (v := (-9 : Int32)) (pc := 24) hx hb dX1_common_24 (by decide) ?_
    refine lv_istore_n (pc := 26) (lv' := [(3, .int (-9 : Int32)), (2, .int (0 : Int32)), (0, .ref (h 0)), (1, .int a1)]) hx hb dX1_common_26 rfl hl (by decide) rfl (fun ls hl => ?_)
    refine lv_iconst (v := (0 : Int32)) (pc := 27) hx hb dX1_common_27 (by decide) ?_
    refine lv_istore (pc := 28) (lv' := [(4, .int (0 : Int32)), (3, .int (-9 : Int32)), (2, .int (0 : Int32)), (0, .ref (h 0)), (1, .int a1)]) hx hb dX1_common_28 hl (by decide) rfl (fun ls hl => ?_)
    exact h30 bs_fu st (0 : Int32) (-9 : Int32) (0 : Int32) _ _ _ hH (lv_sub hl [3, 4, 2, 1, 0] rfl) hd
  · have hd := if_t c3 hd
    refine lv_iconst (v := (-1 : Int32)) (pc := 20) hx hb dX1_common_20 (by decide) ?_
    exact g_iret (WM ct h) hd S hr hlk hH dX1_common_21
section CR_M_common
variable {p : Program} {l : Launch} {e : Env} {R : Room} {s : State} {m : MethodId} {args : Array Value} {below : List Frame} {meth : Method} {c : Code} {H : Heap} {locs : List Loc} {cells slots : Nat} {Q : State → Prop}
variable {cc : ByteArray} {pc nL idx : Nat} {ls : Array Slot} {rest : List Value} {lv : List (Nat × Value)} {A : Nat → Prop} {H0 : Heap} {own : String}
theorem call_M_common {D : va_G} {ct : Nat → ClassId} {h : Nat → Nat} {st : MS} {a1 : Int32} {z : (MS × Int32)} (S : CallFix p m c cc nL s args lw_all own) (hl : lv_has ls nL lv) (hK : va_K D clA (tysG ct) s) (hH : GH D A (mAs h) H0 (WM ct h st) H locs) (hlk : Cond.methodLink own idx yX1_common ∈ lw_all) (hv : M_common st a1 = some z) (hR : 5 ≤ R.frames ∧ 122 ≤ R.locals) (hsum : (rest.map fun v => v.category).sum ≤ 8) (hdg : decode cc pc = .ok (.invokevirtual idx, 3)) (hf : cells ≤ R.cells ∧ slots ≤ R.slots)
    (k : ∀ (H1 : Heap) (locs1 : List Loc), GH D A (mAs h) H0 (WM ct h z.1) H1 locs1 → W p l e R s m args below meth c H1 locs1 cells slots Q (F0 m (pc + 3) ls (.int z.2 :: rest))) : W p l e R s m args below meth c H locs cells slots Q (F0 m pc ls (.int a1 :: .ref (h 0) :: rest)) :=
  g_calli (av := [.int a1]) S hl gE_0_ok trivial hK hH (met_M_common l D ct h H.size st a1 z hv) (lw_V hlk q1202 q1203 q70 q1204) rfl rfl ⟨rfl, by decide, by decide, by show (parseMethodDescriptor yX1_common.desc).map (fun d => d.parameters.length) = some 1; decide +kernel⟩ hR (m_recv hK hH) (fun _ h => Or.inl h) rfl hsum hdg hf k
end CR_M_common
/-! CapCouncilModel.best (I)I -/
def M_best_L14 (k79 : MS → Int32 → Option (MS × Int32)) (a1 : Int32) : Nat → MS → Int32 → Int32 → Option (MS × Int32)
  | 0, _, _, _ => none
  | n + 1, st, x2, x3 =>
    if (100 : Int32) ≤ x3 then
      (k79 st x2)
    else
      ((bs_ld (ma st 0) 84 (71 : Int32)).bind fun v4 =>
      (bs_ld (ma st 0) 84 (70 : Int32)).bind fun v5 =>
      (M_ringsAt st x3 v4 v5).bind fun v6 =>
      (M_bits v6).bind fun v7 =>
      (bs_ld (ma st 0) 84 (71 : Int32)).bind fun v8 =>
      (bs_ld (ma st 0) 84 (70 : Int32)).bind fun v9 =>
      (M_ringsAt st x2 v8 v9).bind fun v10 =>
      (M_bits v10).bind fun v11 =>
      if v7 ≤ v11 then
        (bs_let (x3 + (1 : Int32)) fun w13 =>
        M_best_L14 k79 a1 n st x2 w13)
      else
        (bs_let (x3 + (1 : Int32)) fun w14 =>
        M_best_L14 k79 a1 n st x3 w14))
def M_best_J79 (a1 : Int32) (st : MS) (x2 : Int32) : Option (MS × Int32) :=
  (bs_ld (ma st 0) 84 (71 : Int32)).bind fun v15 =>
  (bs_ld (ma st 0) 84 (70 : Int32)).bind fun v16 =>
  (M_ringsAt st x2 v15 v16).bind fun v17 =>
  (M_bits v17).bind fun v18 =>
  (M_asks st v18).bind fun q19 =>
  some (q19.1, x2)
def M_best (st : MS) (a1 : Int32) : Option (MS × Int32) :=
  (M_isBed st a1).bind fun v1 =>
  if v1 = 0 then
    (some (st, (-1 : Int32)))
  else
    (M_best_L14 (M_best_J79 a1) a1 bs_fu st (0 : Int32) (1 : Int32))
def rm_M_best : Room := { frames := 4, cells := 0, slots := 0, locals := 98 }
set_option maxHeartbeats 4000000 in
set_option maxRecDepth 100000 in
theorem met_M_best (l : Launch) (D : va_G) (ct : Nat → ClassId) (h : Nat → Nat) (sz : Nat) (st : MS) (a1 : Int32) (z : (MS × Int32)) (hd : M_best st a1 = some z) : Met l yX1_best (ws_ yX1_best cX1_best 4 (some .int)) rm_M_best (GPre gE_0 D ct (mAs h) (WM ct h st) sz [.ref (h 0), .int a1]) (GQi D (mAs h) (mAs h) (WM ct h z.1) sz z.2) 0 0 (gA (mAs h) sz) := by
  refine g_met (cc := cX1_best) (maxL := 4) (ret := (some .int)) (by decide) (Nat.le_of_ble_eq_true rfl) ?_
  intro p e U m args below meth c ls S hr hlk hK hH hE hsz hl
  have S : CallFix p m c cX1_best 4 U args lw_all RX1 := S
  have hx := S.1
  have hb := S.2.1
  have hl : lv_has ls 4 [(0, .ref (h 0)), (1, .int a1)] := hl
  have h79 : ∀ (st : MS) (x2 : Int32) (H : Heap) (locs : List Loc) (ls : Array Slot), GH D (gA (mAs h) sz) (mAs h) U.heap (WM ct h st) H locs → lv_has ls 4 [(0, .ref (h 0)), (1, .int a1), (2, .int x2)] → M_best_J79 a1 st x2 = some z → W p l e rm_M_best U m args below meth c H locs 0 0 (MQ below (GQi D (mAs h) (mAs h) (WM ct h z.1) sz z.2) args U 0 0 (gA (mAs h) sz)) (F0 m 79 ls []) := by
    intro st x2 H locs ls hH hl hd
    unfold M_best_J79 at hd
    refine lv_aload_n (pc := 79) hx hb dX1_best_79 rfl (lv_at hl 0 rfl) ?_
    refine lv_aload_n (pc := 80) hx hb dX1_best_80 rfl (lv_at hl 0 rfl) ?_
    refine lv_iload_n (pc := 81) hx hb dX1_best_81 rfl (lv_at hl 2 rfl) ?_
    refine lv_aload_n (pc := 82) hx hb dX1_best_82 rfl (lv_at hl 0 rfl) ?_
    refine mg_now (pc := 83) S hK hH dX1_best_83 ?_
    refine lv_bipush (v := (71 : Int32)) (pc := 86) hx hb dX1_best_86 (by decide) ?_
    obtain ⟨v15, hv15, hd⟩ := bs_bd hd
    refine ml_now (pc := 88) S hK hH hv15 dX1_best_88 ?_
    refine lv_aload_n (pc := 89) hx hb dX1_best_89 rfl (lv_at hl 0 rfl) ?_
    refine mg_now (pc := 90) S hK hH dX1_best_90 ?_
    refine lv_bipush (v := (70 : Int32)) (pc := 93) hx hb dX1_best_93 (by decide) ?_
    obtain ⟨v16, hv16, hd⟩ := bs_bd hd
    refine ml_now (pc := 95) S hK hH hv16 dX1_best_95 ?_
    obtain ⟨v17, hv17, hd⟩ := bs_bd hd
    refine call_M_ringsAt (pc := 96) S hl hK hH q1116 hv17 ⟨Nat.le_of_ble_eq_true rfl, Nat.le_of_ble_eq_true rfl⟩ (Nat.le_of_ble_eq_true rfl) dX1_best_96 ⟨Nat.zero_le _, Nat.zero_le _⟩ ?_
    obtain ⟨v18, hv18, hd⟩ := bs_bd hd
    refine call_M_bits (pc := 99) S hl q1158 hv18 ⟨Nat.le_of_ble_eq_true rfl, Nat.le_of_ble_eq_true rfl⟩ (Nat.le_of_ble_eq_true rfl) dX1_best_99 ⟨Nat.zero_le _, Nat.zero_le _⟩ ?_
    obtain ⟨q19, hq19, hd⟩ := bs_bd hd
    refine call_M_asks (pc := 102) S hl hK hH q989 hq19 ⟨Nat.le_of_ble_eq_true rfl, Nat.le_of_ble_eq_true rfl⟩ (Nat.le_of_ble_eq_true rfl) dX1_best_102 ⟨Nat.zero_le _, Nat.zero_le _⟩ (fun H locs hH => ?_)
    refine lv_istore_n (pc := 105) (lv' := [(3, .int q19.2), (0, .ref (h 0)), (1, .int a1), (2, .int x2)]) hx hb dX1_best_105 rfl hl (by decide) rfl (fun ls hl => ?_)
    refine lv_iload_n (pc := 106) hx hb dX1_best_106 rfl (lv_at hl 3 rfl) ?_
    exact g_iret (WM ct h) hd S hr hlk hH dX1_best_107
  have h14 : ∀ (n14 : Nat) (st : MS) (x2 : Int32) (x3 : Int32) (H : Heap) (locs : List Loc) (ls : Array Slot), GH D (gA (mAs h) sz) (mAs h) U.heap (WM ct h st) H locs → lv_has ls 4 [(0, .ref (h 0)), (1, .int a1), (2, .int x2), (3, .int x3)] → M_best_L14 (M_best_J79 a1) a1 n14 st x2 x3 = some z → W p l e rm_M_best U m args below meth c H locs 0 0 (MQ below (GQi D (mAs h) (mAs h) (WM ct h z.1) sz z.2) args U 0 0 (gA (mAs h) sz)) (F0 m 14 ls []) := by
    intro n14
    induction n14 with
    | zero =>
      intro st x2 x3 H locs ls hH hl hd
      rw [M_best_L14] at hd
      cases hd
    | succ n14 ih14 =>
      intro st x2 x3 H locs ls hH hl hd
      rw [M_best_L14] at hd
      refine lv_iload_n (pc := 14) hx hb dX1_best_14 rfl (lv_at hl 3 rfl) ?_
      refine lv_bipush (v := (100 : Int32)) (pc := 15) hx hb dX1_best_15 (by decide) ?_
      refine lv_icmp_ge (pc := 17) (tgt := 79) hx hb dX1_best_17 (by decide) (fun c3 => ?_) (fun c3 => ?_)
      · have hd := if_t c3 hd
        exact h79 st x2 _ _ _ hH (lv_sub hl [0, 1, 2] rfl) hd
      · have hd := if_n c3 hd
        refine lv_aload_n (pc := 20) hx hb dX1_best_20 rfl (lv_at hl 0 rfl) ?_
        refine lv_iload_n (pc := 21) hx hb dX1_best_21 rfl (lv_at hl 3 rfl) ?_
        refine lv_aload_n (pc := 22) hx hb dX1_best_22 rfl (lv_at hl 0 rfl) ?_
        refine mg_now (pc := 23) S hK hH dX1_best_23 ?_
        refine lv_bipush (v := (71 : Int32)) (pc := 26) hx hb dX1_best_26 (by decide) ?_
        obtain ⟨v4, hv4, hd⟩ := bs_bd hd
        refine ml_now (pc := 28) S hK hH hv4 dX1_best_28 ?_
        refine lv_aload_n (pc := 29) hx hb dX1_best_29 rfl (lv_at hl 0 rfl) ?_
        refine mg_now (pc := 30) S hK hH dX1_best_30 ?_
        refine lv_bipush (v := (70 : Int32)) (pc := 33) hx hb dX1_best_33 (by decide) ?_
        obtain ⟨v5, hv5, hd⟩ := bs_bd hd
        refine ml_now (pc := 35) S hK hH hv5 dX1_best_35 ?_
        obtain ⟨v6, hv6, hd⟩ := bs_bd hd
        refine call_M_ringsAt (pc := 36) S hl hK hH q1116 hv6 ⟨Nat.le_of_ble_eq_true rfl, Nat.le_of_ble_eq_true rfl⟩ (Nat.le_of_ble_eq_true rfl) dX1_best_36 ⟨Nat.zero_le _, Nat.zero_le _⟩ ?_
        obtain ⟨v7, hv7, hd⟩ := bs_bd hd
        refine call_M_bits (pc := 39) S hl q1158 hv7 ⟨Nat.le_of_ble_eq_true rfl, Nat.le_of_ble_eq_true rfl⟩ (Nat.le_of_ble_eq_true rfl) dX1_best_39 ⟨Nat.zero_le _, Nat.zero_le _⟩ ?_
        refine lv_aload_n (pc := 42) hx hb dX1_best_42 rfl (lv_at hl 0 rfl) ?_
        refine lv_iload_n (pc := 43) hx hb dX1_best_43 rfl (lv_at hl 2 rfl) ?_
        refine lv_aload_n (pc := 44) hx hb dX1_best_44 rfl (lv_at hl 0 rfl) ?_
        refine mg_now (pc := 45) S hK hH dX1_best_45 ?_
        refine lv_bipush (v := (71 : Int32)) (pc := 48) hx hb dX1_best_48 (by decide) ?_
        obtain ⟨v8, hv8, hd⟩ := bs_bd hd
        refine ml_now (pc := 50) S hK hH hv8 dX1_best_50 ?_
        refine lv_aload_n (pc := 51) hx hb dX1_best_51 rfl (lv_at hl 0 rfl) ?_
        refine mg_now (pc := 52) S hK hH dX1_best_52 ?_
        refine lv_bipush (v := (70 : Int32)) (pc := 55) hx hb dX1_best_55 (by decide) ?_
        obtain ⟨v9, hv9, hd⟩ := bs_bd hd
        refine ml_now (pc := 57) S hK hH hv9 dX1_best_57 ?_
        obtain ⟨v10, hv10, hd⟩ := bs_bd hd
        refine call_M_ringsAt (pc := 58) S hl hK hH q1116 hv10 ⟨Nat.le_of_ble_eq_true rfl, Nat.le_of_ble_eq_true rfl⟩ (Nat.le_of_ble_eq_true rfl) dX1_best_58 ⟨Nat.zero_le _, Nat.zero_le _⟩ ?_
        obtain ⟨v11, hv11, hd⟩ := bs_bd hd
        refine call_M_bits (pc := 61) S hl q1158 hv11 ⟨Nat.le_of_ble_eq_true rfl, Nat.le_of_ble_eq_true rfl⟩ (Nat.le_of_ble_eq_true rfl) dX1_best_61 ⟨Nat.zero_le _, Nat.zero_le _⟩ ?_
        refine lv_icmp_le (pc := 64) (tgt := 71) hx hb dX1_best_64 (by decide) (fun c12 => ?_) (fun c12 => ?_)
        · have hd := if_t c12 hd
          refine lv_iload_n (pc := 71) hx hb dX1_best_71 rfl (lv_at hl 2 rfl) ?_
          refine lv_istore_n (pc := 72) (lv' := [(2, .int x2), (0, .ref (h 0)), (1, .int a1), (3, .int x3)]) hx hb dX1_best_72 rfl hl (by decide) rfl (fun ls hl => ?_)
          obtain ⟨w13, ew13, hd⟩ := bs_let_spec hd
          refine lv_iinc (pc := 73) (v := w13) (lv' := [(3, .int w13), (2, .int x2), (0, .ref (h 0)), (1, .int a1)]) hx hb dX1_best_73 hl (k := 3) rfl (by rw [ew13]; rfl) (by decide) rfl (fun ls hl => ?_)
          refine lv_goto (pc := 76) (tgt := 14) hx hb dX1_best_76 (by decide) ?_
          exact ih14 st x2 w13 _ _ _ hH (lv_sub hl [2, 3, 1, 0] rfl) hd
        · have hd := if_n c12 hd
          refine lv_iload_n (pc := 67) hx hb dX1_best_67 rfl (lv_at hl 3 rfl) ?_
          refine lv_goto (pc := 68) (tgt := 72) hx hb dX1_best_68 (by decide) ?_
          refine lv_istore_n (pc := 72) (lv' := [(2, .int x3), (0, .ref (h 0)), (1, .int a1), (3, .int x3)]) hx hb dX1_best_72 rfl hl (by decide) rfl (fun ls hl => ?_)
          obtain ⟨w14, ew14, hd⟩ := bs_let_spec hd
          refine lv_iinc (pc := 73) (v := w14) (lv' := [(3, .int w14), (2, .int x3), (0, .ref (h 0)), (1, .int a1)]) hx hb dX1_best_73 hl (k := 3) rfl (by rw [ew14]; rfl) (by decide) rfl (fun ls hl => ?_)
          refine lv_goto (pc := 76) (tgt := 14) hx hb dX1_best_76 (by decide) ?_
          exact ih14 st x3 w14 _ _ _ hH (lv_sub hl [2, 3, 1, 0] rfl) hd
  unfold M_best at hd
  refine lv_aload_n (pc := 0) hx hb dX1_best_0 rfl (lv_at hl 0 rfl) ?_
  refine lv_iload_n (pc := 1) hx hb dX1_best_1 rfl (lv_at hl 1 rfl) ?_
  obtain ⟨v1, hv1, hd⟩ := bs_bd hd
  refine call_M_isBed (pc := 2) S hl hK hH q1103 hv1 ⟨Nat.le_of_ble_eq_true rfl, Nat.le_of_ble_eq_true rfl⟩ (Nat.le_of_ble_eq_true rfl) dX1_best_2 ⟨Nat.zero_le _, Nat.zero_le _⟩ ?_
  refine lv_if_ne (pc := 5) (tgt := 10) hx hb dX1_best_5 (by decide) (fun c2 => ?_) (fun c2 => ?_)
  · have hd := if_n c2 hd
    refine lv_iconst (v := (0 : Int32)) (pc := 10) hx hb dX1_best_10 (by decide) ?_
    refine lv_istore_n (pc := 11) (lv' := [(2, .int (0 : Int32)), (0, .ref (h 0)), (1, .int a1)]) hx hb dX1_best_11 rfl hl (by decide) rfl (fun ls hl => ?_)
    refine lv_iconst (v := (1 : Int32)) (pc := 12) hx hb dX1_best_12 (by decide) ?_
    refine lv_istore_n (pc := 13) (lv' := [(3, .int (1 : Int32)), (2, .int (0 : Int32)), (0, .ref (h 0)), (1, .int a1)]) hx hb dX1_best_13 rfl hl (by decide) rfl (fun ls hl => ?_)
    exact h14 bs_fu st (0 : Int32) (1 : Int32) _ _ _ hH (lv_sub hl [2, 3, 1, 0] rfl) hd
  · have hd := if_t c2 hd
    refine lv_iconst (v := (-1 : Int32)) (pc := 8) hx hb dX1_best_8 (by decide) ?_
    exact g_iret (WM ct h) hd S hr hlk hH dX1_best_9
section CR_M_best
variable {p : Program} {l : Launch} {e : Env} {R : Room} {s : State} {m : MethodId} {args : Array Value} {below : List Frame} {meth : Method} {c : Code} {H : Heap} {locs : List Loc} {cells slots : Nat} {Q : State → Prop}
variable {cc : ByteArray} {pc nL idx : Nat} {ls : Array Slot} {rest : List Value} {lv : List (Nat × Value)} {A : Nat → Prop} {H0 : Heap} {own : String}
theorem call_M_best {D : va_G} {ct : Nat → ClassId} {h : Nat → Nat} {st : MS} {a1 : Int32} {z : (MS × Int32)} (S : CallFix p m c cc nL s args lw_all own) (hl : lv_has ls nL lv) (hK : va_K D clA (tysG ct) s) (hH : GH D A (mAs h) H0 (WM ct h st) H locs) (hlk : Cond.methodLink own idx yX1_best ∈ lw_all) (hv : M_best st a1 = some z) (hR : 5 ≤ R.frames ∧ 121 ≤ R.locals) (hsum : (rest.map fun v => v.category).sum ≤ 8) (hdg : decode cc pc = .ok (.invokevirtual idx, 3)) (hf : cells ≤ R.cells ∧ slots ≤ R.slots)
    (k : ∀ (H1 : Heap) (locs1 : List Loc), GH D A (mAs h) H0 (WM ct h z.1) H1 locs1 → W p l e R s m args below meth c H1 locs1 cells slots Q (F0 m (pc + 3) ls (.int z.2 :: rest))) : W p l e R s m args below meth c H locs cells slots Q (F0 m pc ls (.int a1 :: .ref (h 0) :: rest)) :=
  g_calli (av := [.int a1]) S hl gE_0_ok trivial hK hH (met_M_best l D ct h H.size st a1 z hv) (lw_V hlk q1206 q1207 q70 q1208) rfl rfl ⟨rfl, by decide, by decide, by show (parseMethodDescriptor yX1_best.desc).map (fun d => d.parameters.length) = some 1; decide +kernel⟩ hR (m_recv hK hH) (fun _ h => Or.inl h) rfl hsum hdg hf k
end CR_M_best
/-! CapCouncilModel.when (I)I -/
def M_when_L12 (k52 : MS → Int32 → Int32 → Option (MS × Int32)) (a1 : Int32) : Nat → MS → Int32 → Option (MS × Int32)
  | 0, _, _ => none
  | n + 1, st, x2 =>
    if (40 : Int32) < x2 then
      (some (st, (-9 : Int32)))
    else
      ((bs_ld (ma st 0) 84 ((72 : Int32) + a1)).bind fun v4 =>
      (bs_ld (ma st 0) 84 (71 : Int32)).bind fun v5 =>
      (bs_ld (ma st 0) 84 (70 : Int32)).bind fun v6 =>
      (M_ringsAt st v4 v5 (v6 + x2)).bind fun v7 =>
      if v7 = 0 then
        (bs_let (x2 + (1 : Int32)) fun w9 =>
        M_when_L12 k52 a1 n st w9)
      else
        (k52 st x2 v7))
def M_when_J52 (a1 : Int32) (st : MS) (x2 : Int32) (x3 : Int32) : Option (MS × Int32) :=
  (M_asks st x3).bind fun q10 =>
  some (q10.1, x2)
def M_when (st : MS) (a1 : Int32) : Option (MS × Int32) :=
  (M_isBed st a1).bind fun v1 =>
  if v1 = 0 then
    (some (st, (-1 : Int32)))
  else
    (M_when_L12 (M_when_J52 a1) a1 bs_fu st (0 : Int32))
def rm_M_when : Room := { frames := 4, cells := 0, slots := 0, locals := 98 }
set_option maxHeartbeats 4000000 in
set_option maxRecDepth 100000 in
theorem met_M_when (l : Launch) (D : va_G) (ct : Nat → ClassId) (h : Nat → Nat) (sz : Nat) (st : MS) (a1 : Int32) (z : (MS × Int32)) (hd : M_when st a1 = some z) : Met l yX1_when (ws_ yX1_when cX1_when 5 (some .int)) rm_M_when (GPre gE_0 D ct (mAs h) (WM ct h st) sz [.ref (h 0), .int a1]) (GQi D (mAs h) (mAs h) (WM ct h z.1) sz z.2) 0 0 (gA (mAs h) sz) := by
  refine g_met (cc := cX1_when) (maxL := 5) (ret := (some .int)) (by decide) (Nat.le_of_ble_eq_true rfl) ?_
  intro p e U m args below meth c ls S hr hlk hK hH hE hsz hl
  have S : CallFix p m c cX1_when 5 U args lw_all RX1 := S
  have hx := S.1
  have hb := S.2.1
  have hl : lv_has ls 5 [(0, .ref (h 0)), (1, .int a1)] := hl
  have h52 : ∀ (st : MS) (x2 : Int32) (x3 : Int32) (H : Heap) (locs : List Loc) (ls : Array Slot), GH D (gA (mAs h) sz) (mAs h) U.heap (WM ct h st) H locs → lv_has ls 5 [(0, .ref (h 0)), (1, .int a1), (2, .int x2), (3, .int x3)] → M_when_J52 a1 st x2 x3 = some z → W p l e rm_M_when U m args below meth c H locs 0 0 (MQ below (GQi D (mAs h) (mAs h) (WM ct h z.1) sz z.2) args U 0 0 (gA (mAs h) sz)) (F0 m 52 ls []) := by
    intro st x2 x3 H locs ls hH hl hd
    unfold M_when_J52 at hd
    refine lv_aload_n (pc := 52) hx hb dX1_when_52 rfl (lv_at hl 0 rfl) ?_
    refine lv_iload_n (pc := 53) hx hb dX1_when_53 rfl (lv_at hl 3 rfl) ?_
    obtain ⟨q10, hq10, hd⟩ := bs_bd hd
    refine call_M_asks (pc := 54) S hl hK hH q989 hq10 ⟨Nat.le_of_ble_eq_true rfl, Nat.le_of_ble_eq_true rfl⟩ (Nat.le_of_ble_eq_true rfl) dX1_when_54 ⟨Nat.zero_le _, Nat.zero_le _⟩ (fun H locs hH => ?_)
    refine lv_istore (pc := 57) (lv' := [(4, .int q10.2), (0, .ref (h 0)), (1, .int a1), (2, .int x2), (3, .int x3)]) hx hb dX1_when_57 hl (by decide) rfl (fun ls hl => ?_)
    refine lv_iload_n (pc := 59) hx hb dX1_when_59 rfl (lv_at hl 3 rfl) ?_
    exact g_iret (WM ct h) hd S hr hlk hH dX1_when_60
  have h12 : ∀ (n12 : Nat) (st : MS) (x2 : Int32) (H : Heap) (locs : List Loc) (ls : Array Slot), GH D (gA (mAs h) sz) (mAs h) U.heap (WM ct h st) H locs → lv_has ls 5 [(0, .ref (h 0)), (1, .int a1), (2, .int x2)] → M_when_L12 (M_when_J52 a1) a1 n12 st x2 = some z → W p l e rm_M_when U m args below meth c H locs 0 0 (MQ below (GQi D (mAs h) (mAs h) (WM ct h z.1) sz z.2) args U 0 0 (gA (mAs h) sz)) (F0 m 12 ls []) := by
    intro n12
    induction n12 with
    | zero =>
      intro st x2 H locs ls hH hl hd
      rw [M_when_L12] at hd
      cases hd
    | succ n12 ih12 =>
      intro st x2 H locs ls hH hl hd
      rw [M_when_L12] at hd
      refine lv_iload_n (pc := 12) hx hb dX1_when_12 rfl (lv_at hl 2 rfl) ?_
      refine lv_bipush (v := (40 : Int32)) (pc := 13) hx hb dX1_when_13 (by decide) ?_
      refine lv_icmp_gt (pc := 15) (tgt := 67) hx hb dX1_when_15 (by decide) (fun c3 => ?_) (fun c3 => ?_)
      · have hd := if_t c3 hd
        refine lv_bipush (v := (-9 : Int32)) (pc := 67) hx hb dX1_when_67 (by decide) ?_
        exact g_iret (WM ct h) hd S hr hlk hH dX1_when_69
      · have hd := if_n c3 hd
        refine lv_aload_n (pc := 18) hx hb dX1_when_18 rfl (lv_at hl 0 rfl) ?_
        refine lv_aload_n (pc := 19) hx hb dX1_when_19 rfl (lv_at hl 0 rfl) ?_
        refine mg_now (pc := 20) S hK hH dX1_when_20 ?_
        refine lv_bipush (v := (72 : Int32)) (pc := 23) hx hb dX1_when_23 (by decide) ?_
        refine lv_iload_n (pc := 25) hx hb dX1_when_25 rfl (lv_at hl 1 rfl) ?_
        refine lv_iadd (pc := 26) hx hb dX1_when_26 ?_
        obtain ⟨v4, hv4, hd⟩ := bs_bd hd
        refine ml_now (pc := 27) S hK hH hv4 dX1_when_27 ?_
        refine lv_aload_n (pc := 28) hx hb dX1_when_28 rfl (lv_at hl 0 rfl) ?_
        refine mg_now (pc := 29) S hK hH dX1_when_29 ?_
        refine lv_bipush (v := (71 : Int32)) (pc := 32) hx hb dX1_when_32 (by decide) ?_
        obtain ⟨v5, hv5, hd⟩ := bs_bd hd
        refine ml_now (pc := 34) S hK hH hv5 dX1_when_34 ?_
        refine lv_aload_n (pc := 35) hx hb dX1_when_35 rfl (lv_at hl 0 rfl) ?_
        refine mg_now (pc := 36) S hK hH dX1_when_36 ?_
        refine lv_bipush (v := (70 : Int32)) (pc := 39) hx hb dX1_when_39 (by decide) ?_
        obtain ⟨v6, hv6, hd⟩ := bs_bd hd
        refine ml_now (pc := 41) S hK hH hv6 dX1_when_41 ?_
        refine lv_iload_n (pc := 42) hx hb dX1_when_42 rfl (lv_at hl 2 rfl) ?_
        refine lv_iadd (pc := 43) hx hb dX1_when_43 ?_
        obtain ⟨v7, hv7, hd⟩ := bs_bd hd
        refine call_M_ringsAt (pc := 44) S hl hK hH q1116 hv7 ⟨Nat.le_of_ble_eq_true rfl, Nat.le_of_ble_eq_true rfl⟩ (Nat.le_of_ble_eq_true rfl) dX1_when_44 ⟨Nat.zero_le _, Nat.zero_le _⟩ ?_
        refine lv_istore_n (pc := 47) (lv' := [(3, .int v7), (0, .ref (h 0)), (1, .int a1), (2, .int x2)]) hx hb dX1_when_47 rfl hl (by decide) rfl (fun ls hl => ?_)
        refine lv_iload_n (pc := 48) hx hb dX1_when_48 rfl (lv_at hl 0 rfl) ?_
        refine lv_if_eq (pc := 49) (tgt := 61) hx hb dX1_when_49 (by decide) (fun c8 => ?_) (fun c8 => ?_)
        · have hd := if_t c8 hd
          obtain ⟨w9, ew9, hd⟩ := bs_let_spec hd
          refine lv_iinc (pc := 61) (v := w9) (lv' := [(2, .int w9), (3, .int v7), (0, .ref (h 0)), (1, .int a1)]) hx hb dX1_when_61 hl (k := 3) rfl (by rw [ew9]; rfl) (by decide) rfl (fun ls hl => ?_)
          refine lv_goto (pc := 64) (tgt := 12) hx hb dX1_when_64 (by decide) ?_
          exact ih12 st w9 _ _ _ hH (lv_sub hl [2, 3, 0] rfl) hd
        · have hd := if_n c8 hd
          exact h52 st x2 v7 _ _ _ hH (lv_sub hl [1, 2, 3, 0] rfl) hd
  unfold M_when at hd
  refine lv_aload_n (pc := 0) hx hb dX1_when_0 rfl (lv_at hl 0 rfl) ?_
  refine lv_iload_n (pc := 1) hx hb dX1_when_1 rfl (lv_at hl 1 rfl) ?_
  obtain ⟨v1, hv1, hd⟩ := bs_bd hd
  refine call_M_isBed (pc := 2) S hl hK hH q1103 hv1 ⟨Nat.le_of_ble_eq_true rfl, Nat.le_of_ble_eq_true rfl⟩ (Nat.le_of_ble_eq_true rfl) dX1_when_2 ⟨Nat.zero_le _, Nat.zero_le _⟩ ?_
  refine lv_if_ne (pc := 5) (tgt := 10) hx hb dX1_when_5 (by decide) (fun c2 => ?_) (fun c2 => ?_)
  · have hd := if_n c2 hd
    refine lv_iconst (v := (0 : Int32)) (pc := 10) hx hb dX1_when_10 (by decide) ?_
    refine lv_istore_n (pc := 11) (lv' := [(2, .int (0 : Int32)), (0, .ref (h 0)), (1, .int a1)]) hx hb dX1_when_11 rfl hl (by decide) rfl (fun ls hl => ?_)
    exact h12 bs_fu st (0 : Int32) _ _ _ hH (lv_sub hl [1, 2, 0] rfl) hd
  · have hd := if_t c2 hd
    refine lv_iconst (v := (-1 : Int32)) (pc := 8) hx hb dX1_when_8 (by decide) ?_
    exact g_iret (WM ct h) hd S hr hlk hH dX1_when_9
section CR_M_when
variable {p : Program} {l : Launch} {e : Env} {R : Room} {s : State} {m : MethodId} {args : Array Value} {below : List Frame} {meth : Method} {c : Code} {H : Heap} {locs : List Loc} {cells slots : Nat} {Q : State → Prop}
variable {cc : ByteArray} {pc nL idx : Nat} {ls : Array Slot} {rest : List Value} {lv : List (Nat × Value)} {A : Nat → Prop} {H0 : Heap} {own : String}
theorem call_M_when {D : va_G} {ct : Nat → ClassId} {h : Nat → Nat} {st : MS} {a1 : Int32} {z : (MS × Int32)} (S : CallFix p m c cc nL s args lw_all own) (hl : lv_has ls nL lv) (hK : va_K D clA (tysG ct) s) (hH : GH D A (mAs h) H0 (WM ct h st) H locs) (hlk : Cond.methodLink own idx yX1_when ∈ lw_all) (hv : M_when st a1 = some z) (hR : 5 ≤ R.frames ∧ 122 ≤ R.locals) (hsum : (rest.map fun v => v.category).sum ≤ 8) (hdg : decode cc pc = .ok (.invokevirtual idx, 3)) (hf : cells ≤ R.cells ∧ slots ≤ R.slots)
    (k : ∀ (H1 : Heap) (locs1 : List Loc), GH D A (mAs h) H0 (WM ct h z.1) H1 locs1 → W p l e R s m args below meth c H1 locs1 cells slots Q (F0 m (pc + 3) ls (.int z.2 :: rest))) : W p l e R s m args below meth c H locs cells slots Q (F0 m pc ls (.int a1 :: .ref (h 0) :: rest)) :=
  g_calli (av := [.int a1]) S hl gE_0_ok trivial hK hH (met_M_when l D ct h H.size st a1 z hv) (lw_V hlk q1210 q1211 q70 q1212) rfl rfl ⟨rfl, by decide, by decide, by show (parseMethodDescriptor yX1_when.desc).map (fun d => d.parameters.length) = some 1; decide +kernel⟩ hR (m_recv hK hH) (fun _ h => Or.inl h) rfl hsum hdg hf k
end CR_M_when
/-! CapCouncilModel.years (II)I -/
def M_years_J82 (k30 : MS → Int32 → Int32 → Int32 → Option (MS × Int32)) (a1 : Int32) (a2 : Int32) (st : MS) (x4 : Int32) (x5 : Int32) (x6 : Int32) (y0 : Int32) (y1 : Int32) : Option (MS × Int32) :=
  bs_let (y1 + y0) fun w13 =>
  if x6 ≤ x4 then
    (bs_let (x5 + (1 : Int32)) fun w15 =>
    k30 st w13 x4 w15)
  else
    (bs_let (x5 + (1 : Int32)) fun w16 =>
    k30 st w13 x6 w16)
def M_years_L30 (k106 : MS → Int32 → Int32 → Option (MS × Int32)) (a1 : Int32) (a2 : Int32) : Nat → MS → Int32 → Int32 → Int32 → Option (MS × Int32)
  | 0, _, _, _, _ => none
  | n + 1, st, x3, x4, x5 =>
    if a2 ≤ x5 then
      (k106 st x3 x4)
    else
      ((bs_ld (ma st 0) 84 ((72 : Int32) + a1)).bind fun v6 =>
      (bs_ld (ma st 0) 84 (71 : Int32)).bind fun v7 =>
      (bs_ld (ma st 0) 84 (70 : Int32)).bind fun v8 =>
      (M_ringsAt st v6 v7 (v8 + x5)).bind fun v9 =>
      (M_bits v9).bind fun v10 =>
      if v10 ≤ 0 then
        (M_years_J82 (M_years_L30 k106 a1 a2 n) a1 a2 st x4 x5 v10 (0 : Int32) x3)
      else
        (M_years_J82 (M_years_L30 k106 a1 a2 n) a1 a2 st x4 x5 v10 (1 : Int32) x3))
def M_years_J106 (a1 : Int32) (a2 : Int32) (st : MS) (x3 : Int32) (x4 : Int32) : Option (MS × Int32) :=
  (M_asks st x4).bind fun q12 =>
  some (q12.1, x3)
def M_years (st : MS) (a1 : Int32) (a2 : Int32) : Option (MS × Int32) :=
  (M_isBed st a1).bind fun v1 =>
  if v1 = 0 then
    (some (st, (-1 : Int32)))
  else
    ((M_in (a2.toInt64) (0 : Int64) (40 : Int64)).bind fun v3 =>
    if v3 = 0 then
      (some (st, (-1 : Int32)))
    else
      (M_years_L30 (M_years_J106 a1 a2) a1 a2 bs_fu st (0 : Int32) (0 : Int32) (0 : Int32)))
def rm_M_years : Room := { frames := 4, cells := 0, slots := 0, locals := 98 }
set_option maxHeartbeats 4000000 in
set_option maxRecDepth 100000 in
theorem met_M_years (l : Launch) (D : va_G) (ct : Nat → ClassId) (h : Nat → Nat) (sz : Nat) (st : MS) (a1 : Int32) (a2 : Int32) (z : (MS × Int32)) (hd : M_years st a1 a2 = some z) : Met l yX1_years (ws_ yX1_years cX1_years 7 (some .int)) rm_M_years (GPre gE_0 D ct (mAs h) (WM ct h st) sz [.ref (h 0), .int a1, .int a2]) (GQi D (mAs h) (mAs h) (WM ct h z.1) sz z.2) 0 0 (gA (mAs h) sz) := by
  refine g_met (cc := cX1_years) (maxL := 7) (ret := (some .int)) (by decide) (Nat.le_of_ble_eq_true rfl) ?_
  intro p e U m args below meth c ls S hr hlk hK hH hE hsz hl
  have S : CallFix p m c cX1_years 7 U args lw_all RX1 := S
  have hx := S.1
  have hb := S.2.1
  have hl : lv_has ls 7 [(0, .ref (h 0)), (1, .int a1), (2, .int a2)] := hl
  have h106 : ∀ (st : MS) (x3 : Int32) (x4 : Int32) (H : Heap) (locs : List Loc) (ls : Array Slot), GH D (gA (mAs h) sz) (mAs h) U.heap (WM ct h st) H locs → lv_has ls 7 [(0, .ref (h 0)), (1, .int a1), (2, .int a2), (3, .int x3), (4, .int x4)] → M_years_J106 a1 a2 st x3 x4 = some z → W p l e rm_M_years U m args below meth c H locs 0 0 (MQ below (GQi D (mAs h) (mAs h) (WM ct h z.1) sz z.2) args U 0 0 (gA (mAs h) sz)) (F0 m 106 ls []) := by
    intro st x3 x4 H locs ls hH hl hd
    unfold M_years_J106 at hd
    refine lv_aload_n (pc := 106) hx hb dX1_years_106 rfl (lv_at hl 0 rfl) ?_
    refine lv_iload (pc := 107) hx hb dX1_years_107 (lv_at hl 4 rfl) ?_
    obtain ⟨q12, hq12, hd⟩ := bs_bd hd
    refine call_M_asks (pc := 109) S hl hK hH q989 hq12 ⟨Nat.le_of_ble_eq_true rfl, Nat.le_of_ble_eq_true rfl⟩ (Nat.le_of_ble_eq_true rfl) dX1_years_109 ⟨Nat.zero_le _, Nat.zero_le _⟩ (fun H locs hH => ?_)
    refine lv_istore (pc := 112) (lv' := [(5, .int q12.2), (0, .ref (h 0)), (1, .int a1), (2, .int a2), (3, .int x3), (4, .int x4)]) hx hb dX1_years_112 hl (by decide) rfl (fun ls hl => ?_)
    refine lv_iload_n (pc := 114) hx hb dX1_years_114 rfl (lv_at hl 4 rfl) ?_
    exact g_iret (WM ct h) hd S hr hlk hH dX1_years_115
  have h30 : ∀ (n30 : Nat) (st : MS) (x3 : Int32) (x4 : Int32) (x5 : Int32) (H : Heap) (locs : List Loc) (ls : Array Slot), GH D (gA (mAs h) sz) (mAs h) U.heap (WM ct h st) H locs → lv_has ls 7 [(0, .ref (h 0)), (1, .int a1), (2, .int a2), (3, .int x3), (4, .int x4), (5, .int x5)] → M_years_L30 (M_years_J106 a1 a2) a1 a2 n30 st x3 x4 x5 = some z → W p l e rm_M_years U m args below meth c H locs 0 0 (MQ below (GQi D (mAs h) (mAs h) (WM ct h z.1) sz z.2) args U 0 0 (gA (mAs h) sz)) (F0 m 30 ls []) := by
    intro n30
    induction n30 with
    | zero =>
      intro st x3 x4 x5 H locs ls hH hl hd
      rw [M_years_L30] at hd
      cases hd
    | succ n30 ih30 =>
      have h82 : ∀ (st : MS) (x4 : Int32) (x5 : Int32) (x6 : Int32) (y0 : Int32) (y1 : Int32) (H : Heap) (locs : List Loc) (ls : Array Slot), GH D (gA (mAs h) sz) (mAs h) U.heap (WM ct h st) H locs → lv_has ls 7 [(0, .ref (h 0)), (1, .int a1), (2, .int a2), (4, .int x4), (5, .int x5), (6, .int x6)] → M_years_J82 (M_years_L30 (M_years_J106 a1 a2) a1 a2 n30) a1 a2 st x4 x5 x6 y0 y1 = some z → W p l e rm_M_years U m args below meth c H locs 0 0 (MQ below (GQi D (mAs h) (mAs h) (WM ct h z.1) sz z.2) args U 0 0 (gA (mAs h) sz)) (F0 m 82 ls [.int y0, .int y1]) := by
        intro st x4 x5 x6 y0 y1 H locs ls hH hl hd
        unfold M_years_J82 at hd
        refine lv_iadd (pc := 82) hx hb dX1_years_82 ?_
        obtain ⟨w13, ew13, hd⟩ := bs_let_spec hd
        refine lv_topE (pc := 83) ew13 ?_
        refine lv_istore_n (pc := 83) (lv' := [(3, .int w13), (0, .ref (h 0)), (1, .int a1), (2, .int a2), (4, .int x4), (5, .int x5), (6, .int x6)]) hx hb dX1_years_83 rfl hl (by decide) rfl (fun ls hl => ?_)
        refine lv_iload (pc := 84) hx hb dX1_years_84 (lv_at hl 6 rfl) ?_
        refine lv_iload (pc := 86) hx hb dX1_years_86 (lv_at hl 4 rfl) ?_
        refine lv_icmp_le (pc := 88) (tgt := 96) hx hb dX1_years_88 (by decide) (fun c14 => ?_) (fun c14 => ?_)
        · have hd := if_t c14 hd
          refine lv_iload (pc := 96) hx hb dX1_years_96 (lv_at hl 4 rfl) ?_
          refine lv_istore (pc := 98) (lv' := [(4, .int x4), (3, .int w13), (0, .ref (h 0)), (1, .int a1), (2, .int a2), (5, .int x5), (6, .int x6)]) hx hb dX1_years_98 hl (by decide) rfl (fun ls hl => ?_)
          obtain ⟨w15, ew15, hd⟩ := bs_let_spec hd
          refine lv_iinc (pc := 100) (v := w15) (lv' := [(5, .int w15), (4, .int x4), (3, .int w13), (0, .ref (h 0)), (1, .int a1), (2, .int a2), (6, .int x6)]) hx hb dX1_years_100 hl (k := 5) rfl (by rw [ew15]; rfl) (by decide) rfl (fun ls hl => ?_)
          refine lv_goto (pc := 103) (tgt := 30) hx hb dX1_years_103 (by decide) ?_
          exact ih30 st w13 x4 w15 _ _ _ hH (lv_sub hl [3, 4, 5, 2, 1, 0] rfl) hd
        · have hd := if_n c14 hd
          refine lv_iload (pc := 91) hx hb dX1_years_91 (lv_at hl 6 rfl) ?_
          refine lv_goto (pc := 93) (tgt := 98) hx hb dX1_years_93 (by decide) ?_
          refine lv_istore (pc := 98) (lv' := [(4, .int x6), (3, .int w13), (0, .ref (h 0)), (1, .int a1), (2, .int a2), (5, .int x5), (6, .int x6)]) hx hb dX1_years_98 hl (by decide) rfl (fun ls hl => ?_)
          obtain ⟨w16, ew16, hd⟩ := bs_let_spec hd
          refine lv_iinc (pc := 100) (v := w16) (lv' := [(5, .int w16), (4, .int x6), (3, .int w13), (0, .ref (h 0)), (1, .int a1), (2, .int a2), (6, .int x6)]) hx hb dX1_years_100 hl (k := 5) rfl (by rw [ew16]; rfl) (by decide) rfl (fun ls hl => ?_)
          refine lv_goto (pc := 103) (tgt := 30) hx hb dX1_years_103 (by decide) ?_
          exact ih30 st w13 x6 w16 _ _ _ hH (lv_sub hl [3, 4, 5, 2, 1, 0] rfl) hd
      intro st x3 x4 x5 H locs ls hH hl hd
      rw [M_years_L30] at hd
      refine lv_iload (pc := 30) hx hb dX1_years_30 (lv_at hl 5 rfl) ?_
      refine lv_iload_n (pc := 32) hx hb dX1_years_32 rfl (lv_at hl 2 rfl) ?_
      refine lv_icmp_ge (pc := 33) (tgt := 106) hx hb dX1_years_33 (by decide) (fun c5 => ?_) (fun c5 => ?_)
      · have hd := if_t c5 hd
        exact h106 st x3 x4 _ _ _ hH (lv_sub hl [0, 1, 2, 3, 4] rfl) hd
      · have hd := if_n c5 hd
        refine lv_aload_n (pc := 36) hx hb dX1_years_36 rfl (lv_at hl 0 rfl) ?_
        refine lv_aload_n (pc := 37) hx hb dX1_years_37 rfl (lv_at hl 0 rfl) ?_
        refine mg_now (pc := 38) S hK hH dX1_years_38 ?_
        refine lv_bipush (v := (72 : Int32)) (pc := 41) hx hb dX1_years_41 (by decide) ?_
        refine lv_iload_n (pc := 43) hx hb dX1_years_43 rfl (lv_at hl 1 rfl) ?_
        refine lv_iadd (pc := 44) hx hb dX1_years_44 ?_
        obtain ⟨v6, hv6, hd⟩ := bs_bd hd
        refine ml_now (pc := 45) S hK hH hv6 dX1_years_45 ?_
        refine lv_aload_n (pc := 46) hx hb dX1_years_46 rfl (lv_at hl 0 rfl) ?_
        refine mg_now (pc := 47) S hK hH dX1_years_47 ?_
        refine lv_bipush (v := (71 : Int32)) (pc := 50) hx hb dX1_years_50 (by decide) ?_
        obtain ⟨v7, hv7, hd⟩ := bs_bd hd
        refine ml_now (pc := 52) S hK hH hv7 dX1_years_52 ?_
        refine lv_aload_n (pc := 53) hx hb dX1_years_53 rfl (lv_at hl 0 rfl) ?_
        refine mg_now (pc := 54) S hK hH dX1_years_54 ?_
        refine lv_bipush (v := (70 : Int32)) (pc := 57) hx hb dX1_years_57 (by decide) ?_
        obtain ⟨v8, hv8, hd⟩ := bs_bd hd
        refine ml_now (pc := 59) S hK hH hv8 dX1_years_59 ?_
        refine lv_iload (pc := 60) hx hb dX1_years_60 (lv_at hl 5 rfl) ?_
        refine lv_iadd (pc := 62) hx hb dX1_years_62 ?_
        obtain ⟨v9, hv9, hd⟩ := bs_bd hd
        refine call_M_ringsAt (pc := 63) S hl hK hH q1116 hv9 ⟨Nat.le_of_ble_eq_true rfl, Nat.le_of_ble_eq_true rfl⟩ (Nat.le_of_ble_eq_true rfl) dX1_years_63 ⟨Nat.zero_le _, Nat.zero_le _⟩ ?_
        obtain ⟨v10, hv10, hd⟩ := bs_bd hd
        refine call_M_bits (pc := 66) S hl q1158 hv10 ⟨Nat.le_of_ble_eq_true rfl, Nat.le_of_ble_eq_true rfl⟩ (Nat.le_of_ble_eq_true rfl) dX1_years_66 ⟨Nat.zero_le _, Nat.zero_le _⟩ ?_
        refine lv_istore (pc := 69) (lv' := [(6, .int v10), (0, .ref (h 0)), (1, .int a1), (2, .int a2), (3, .int x3), (4, .int x4), (5, .int x5)]) hx hb dX1_years_69 hl (by decide) rfl (fun ls hl => ?_)
        refine lv_iload_n (pc := 71) hx hb dX1_years_71 rfl (lv_at hl 4 rfl) ?_
        refine lv_iload (pc := 72) hx hb dX1_years_72 (lv_at hl 0 rfl) ?_
        refine lv_if_le (pc := 74) (tgt := 81) hx hb dX1_years_74 (by decide) (fun c11 => ?_) (fun c11 => ?_)
        · have hd := if_t c11 hd
          refine lv_iconst (v := (0 : Int32)) (pc := 81) hx hb dX1_years_81 (by decide) ?_
          exact h82 st x4 x5 v10 (0 : Int32) x3 _ _ _ hH (lv_sub hl [1, 2, 3, 5, 6, 0] rfl) hd
        · have hd := if_n c11 hd
          refine lv_iconst (v := (1 : Int32)) (pc := 77) hx hb dX1_years_77 (by decide) ?_
          refine lv_goto (pc := 78) (tgt := 82) hx hb dX1_years_78 (by decide) ?_
          exact h82 st x4 x5 v10 (1 : Int32) x3 _ _ _ hH (lv_sub hl [1, 2, 3, 5, 6, 0] rfl) hd
  unfold M_years at hd
  refine lv_aload_n (pc := 0) hx hb dX1_years_0 rfl (lv_at hl 0 rfl) ?_
  refine lv_iload_n (pc := 1) hx hb dX1_years_1 rfl (lv_at hl 1 rfl) ?_
  obtain ⟨v1, hv1, hd⟩ := bs_bd hd
  refine call_M_isBed (pc := 2) S hl hK hH q1103 hv1 ⟨Nat.le_of_ble_eq_true rfl, Nat.le_of_ble_eq_true rfl⟩ (Nat.le_of_ble_eq_true rfl) dX1_years_2 ⟨Nat.zero_le _, Nat.zero_le _⟩ ?_
  refine lv_if_eq (pc := 5) (tgt := 20) hx hb dX1_years_5 (by decide) (fun c2 => ?_) (fun c2 => ?_)
  · have hd := if_t c2 hd
    refine lv_iconst (v := (-1 : Int32)) (pc := 20) hx hb dX1_years_20 (by decide) ?_
    exact g_iret (WM ct h) hd S hr hlk hH dX1_years_21
  · have hd := if_n c2 hd
    refine lv_iload_n (pc := 8) hx hb dX1_years_8 rfl (lv_at hl 2 rfl) ?_
    refine lv_i2l (pc := 9) hx hb dX1_years_9 rfl ?_
    refine lv_lconst (v := (0 : Int64)) (pc := 10) hx hb dX1_years_10 (by decide) ?_
    refine lv_ldc2 (pc := 11) (own := RX1) (v := (40 : Int64)) hx hb S.2.2.2.1 (S.2.2.2.2 _ q1217) dX1_years_11 ?_
    obtain ⟨v3, hv3, hd⟩ := bs_bd hd
    refine call_M_in (pc := 14) S hl q974 hv3 ⟨Nat.le_of_ble_eq_true rfl, Nat.le_of_ble_eq_true rfl⟩ (Nat.le_of_ble_eq_true rfl) dX1_years_14 ⟨Nat.zero_le _, Nat.zero_le _⟩ ?_
    refine lv_if_ne (pc := 17) (tgt := 22) hx hb dX1_years_17 (by decide) (fun c4 => ?_) (fun c4 => ?_)
    · have hd := if_n c4 hd
      refine lv_iconst (v := (0 : Int32)) (pc := 22) hx hb dX1_years_22 (by decide) ?_
      refine lv_istore_n (pc := 23) (lv' := [(3, .int (0 : Int32)), (0, .ref (h 0)), (1, .int a1), (2, .int a2)]) hx hb dX1_years_23 rfl hl (by decide) rfl (fun ls hl => ?_)
      refine lv_iconst (v := (0 : Int32)) (pc := 24) hx hb dX1_years_24 (by decide) ?_
      refine lv_istore (pc := 25) (lv' := [(4, .int (0 : Int32)), (3, .int (0 : Int32)), (0, .ref (h 0)), (1, .int a1), (2, .int a2)]) hx hb dX1_years_25 hl (by decide) rfl (fun ls hl => ?_)
      refine lv_iconst (v := (0 : Int32)) (pc := 27) hx hb dX1_years_27 (by decide) ?_
      refine lv_istore (pc := 28) (lv' := [(5, .int (0 : Int32)), (4, .int (0 : Int32)), (3, .int (0 : Int32)), (0, .ref (h 0)), (1, .int a1), (2, .int a2)]) hx hb dX1_years_28 hl (by decide) rfl (fun ls hl => ?_)
      exact h30 bs_fu st (0 : Int32) (0 : Int32) (0 : Int32) _ _ _ hH (lv_sub hl [3, 4, 5, 2, 1, 0] rfl) hd
    · have hd := if_t c4 hd
      refine lv_iconst (v := (-1 : Int32)) (pc := 20) hx hb dX1_years_20 (by decide) ?_
      exact g_iret (WM ct h) hd S hr hlk hH dX1_years_21
section CR_M_years
variable {p : Program} {l : Launch} {e : Env} {R : Room} {s : State} {m : MethodId} {args : Array Value} {below : List Frame} {meth : Method} {c : Code} {H : Heap} {locs : List Loc} {cells slots : Nat} {Q : State → Prop}
variable {cc : ByteArray} {pc nL idx : Nat} {ls : Array Slot} {rest : List Value} {lv : List (Nat × Value)} {A : Nat → Prop} {H0 : Heap} {own : String}
theorem call_M_years {D : va_G} {ct : Nat → ClassId} {h : Nat → Nat} {st : MS} {a1 : Int32} {a2 : Int32} {z : (MS × Int32)} (S : CallFix p m c cc nL s args lw_all own) (hl : lv_has ls nL lv) (hK : va_K D clA (tysG ct) s) (hH : GH D A (mAs h) H0 (WM ct h st) H locs) (hlk : Cond.methodLink own idx yX1_years ∈ lw_all) (hv : M_years st a1 a2 = some z) (hR : 5 ≤ R.frames ∧ 124 ≤ R.locals) (hsum : (rest.map fun v => v.category).sum ≤ 8) (hdg : decode cc pc = .ok (.invokevirtual idx, 3)) (hf : cells ≤ R.cells ∧ slots ≤ R.slots)
    (k : ∀ (H1 : Heap) (locs1 : List Loc), GH D A (mAs h) H0 (WM ct h z.1) H1 locs1 → W p l e R s m args below meth c H1 locs1 cells slots Q (F0 m (pc + 3) ls (.int z.2 :: rest))) : W p l e R s m args below meth c H locs cells slots Q (F0 m pc ls (.int a2 :: .int a1 :: .ref (h 0) :: rest)) :=
  g_calli (av := [.int a1, .int a2]) S hl gE_0_ok trivial hK hH (met_M_years l D ct h H.size st a1 a2 z hv) (lw_V hlk q1214 q1215 q70 q1216) rfl rfl ⟨rfl, by decide, by decide, by show (parseMethodDescriptor yX1_years.desc).map (fun d => d.parameters.length) = some 2; decide +kernel⟩ hR (m_recv hK hH) (fun _ h => Or.inl h) rfl hsum hdg hf k
end CR_M_years
/-! CapCouncilModel.near (II)I -/
def M_near_J100 (k28 : MS → Int32 → Int32 → Int32 → Option (MS × Int32)) (a1 : Int32) (a2 : Int32) (st : MS) (x4 : Int32) (x5 : Int32) (x6 : Int32) (y0 : Int32) : Option (MS × Int32) :=
  if x4 ≤ x6 then
    (bs_let (x5 + (1 : Int32)) fun w19 =>
    k28 st y0 x4 w19)
  else
    (bs_let (x5 + (1 : Int32)) fun w20 =>
    k28 st y0 x6 w20)
def M_near_J85 (k28 : MS → Int32 → Int32 → Int32 → Option (MS × Int32)) (a1 : Int32) (a2 : Int32) (st : MS) (x3 : Int32) (x4 : Int32) (x5 : Int32) (y0 : Int32) : Option (MS × Int32) :=
  if x4 ≤ y0 then
    (M_near_J100 (k28) a1 a2 st x4 x5 y0 x3)
  else
    (M_near_J100 (k28) a1 a2 st x4 x5 y0 x5)
def M_near_L28 (k123 : MS → Int32 → Int32 → Option (MS × Int32)) (a1 : Int32) (a2 : Int32) : Nat → MS → Int32 → Int32 → Int32 → Option (MS × Int32)
  | 0, _, _, _, _ => none
  | n + 1, st, x3, x4, x5 =>
    if (100 : Int32) ≤ x5 then
      (k123 st x3 x4)
    else
      ((bs_ld (ma st 0) 84 (71 : Int32)).bind fun v6 =>
      (M_has v6 a2).bind fun v7 =>
      if v7 = 0 then
        (M_near_J85 (M_near_L28 k123 a1 a2 n) a1 a2 st x3 x4 x5 (1000000 : Int32))
      else
        ((bs_ld (ma st 0) 84 (70 : Int32)).bind fun v9 =>
        (M_isIn st a2 x5 v9).bind fun v10 =>
        if v10 = 0 then
          (M_near_J85 (M_near_L28 k123 a1 a2 n) a1 a2 st x3 x4 x5 (1000000 : Int32))
        else
          ((bs_ld (ma st 0) 84 ((72 : Int32) + a1)).bind fun v12 =>
          (M_distance x5 v12).bind fun v13 =>
          M_near_J85 (M_near_L28 k123 a1 a2 n) a1 a2 st x3 x4 x5 v13)))
def M_near_J138 (a1 : Int32) (a2 : Int32) (st : MS) (x3 : Int32) (x4 : Int32) (y0 : Int32) : Option (MS × Int32) :=
  if x3 = (-9 : Int32) then
    (some (st, (-9 : Int32)))
  else
    (some (st, x4))
def M_near_J123 (a1 : Int32) (a2 : Int32) (st : MS) (x3 : Int32) (x4 : Int32) : Option (MS × Int32) :=
  if x3 = (-9 : Int32) then
    (M_near_J138 a1 a2 st x3 x4 (0 : Int32))
  else
    ((M_asks st x3).bind fun q15 =>
    M_near_J138 a1 a2 q15.1 x3 x4 q15.2)
def M_near (st : MS) (a1 : Int32) (a2 : Int32) : Option (MS × Int32) :=
  (M_isBed st a1).bind fun v1 =>
  if v1 = 0 then
    (some (st, (-1 : Int32)))
  else
    ((M_isRing st a2).bind fun v3 =>
    if v3 = 0 then
      (some (st, (-1 : Int32)))
    else
      (M_near_L28 (M_near_J123 a1 a2) a1 a2 bs_fu st (-9 : Int32) (1000000 : Int32) (0 : Int32)))
def rm_M_near : Room := { frames := 3, cells := 0, slots := 0, locals := 73 }
set_option maxHeartbeats 4000000 in
set_option maxRecDepth 100000 in
theorem met_M_near (l : Launch) (D : va_G) (ct : Nat → ClassId) (h : Nat → Nat) (sz : Nat) (st : MS) (a1 : Int32) (a2 : Int32) (z : (MS × Int32)) (hd : M_near st a1 a2 = some z) : Met l yX1_near (ws_ yX1_near cX1_near 7 (some .int)) rm_M_near (GPre gE_0 D ct (mAs h) (WM ct h st) sz [.ref (h 0), .int a1, .int a2]) (GQi D (mAs h) (mAs h) (WM ct h z.1) sz z.2) 0 0 (gA (mAs h) sz) := by
  refine g_met (cc := cX1_near) (maxL := 7) (ret := (some .int)) (by decide) (Nat.le_of_ble_eq_true rfl) ?_
  intro p e U m args below meth c ls S hr hlk hK hH hE hsz hl
  have S : CallFix p m c cX1_near 7 U args lw_all RX1 := S
  have hx := S.1
  have hb := S.2.1
  have hl : lv_has ls 7 [(0, .ref (h 0)), (1, .int a1), (2, .int a2)] := hl
  have h138 : ∀ (st : MS) (x3 : Int32) (x4 : Int32) (y0 : Int32) (H : Heap) (locs : List Loc) (ls : Array Slot), GH D (gA (mAs h) sz) (mAs h) U.heap (WM ct h st) H locs → lv_has ls 7 [(0, .ref (h 0)), (1, .int a1), (2, .int a2), (3, .int x3), (4, .int x4)] → M_near_J138 a1 a2 st x3 x4 y0 = some z → W p l e rm_M_near U m args below meth c H locs 0 0 (MQ below (GQi D (mAs h) (mAs h) (WM ct h z.1) sz z.2) args U 0 0 (gA (mAs h) sz)) (F0 m 138 ls [.int y0]) := by
    intro st x3 x4 y0 H locs ls hH hl hd
    unfold M_near_J138 at hd
    refine lv_istore (pc := 138) (lv' := [(5, .int y0), (0, .ref (h 0)), (1, .int a1), (2, .int a2), (3, .int x3), (4, .int x4)]) hx hb dX1_near_138 hl (by decide) rfl (fun ls hl => ?_)
    refine lv_iload_n (pc := 140) hx hb dX1_near_140 rfl (lv_at hl 4 rfl) ?_
    refine lv_bipush (v := (-9 : Int32)) (pc := 141) hx hb dX1_near_141 (by decide) ?_
    refine lv_icmp_ne (pc := 143) (tgt := 151) hx hb dX1_near_143 (by decide) (fun c17 => ?_) (fun c17 => ?_)
    · have hd := if_n c17 hd
      refine lv_iload (pc := 151) hx hb dX1_near_151 (lv_at hl 5 rfl) ?_
      exact g_iret (WM ct h) hd S hr hlk hH dX1_near_153
    · have hd := if_t c17 hd
      refine lv_bipush (v := (-9 : Int32)) (pc := 146) hx hb dX1_near_146 (by decide) ?_
      refine lv_goto (pc := 148) (tgt := 153) hx hb dX1_near_148 (by decide) ?_
      exact g_iret (WM ct h) hd S hr hlk hH dX1_near_153
  have h123 : ∀ (st : MS) (x3 : Int32) (x4 : Int32) (H : Heap) (locs : List Loc) (ls : Array Slot), GH D (gA (mAs h) sz) (mAs h) U.heap (WM ct h st) H locs → lv_has ls 7 [(0, .ref (h 0)), (1, .int a1), (2, .int a2), (3, .int x3), (4, .int x4)] → M_near_J123 a1 a2 st x3 x4 = some z → W p l e rm_M_near U m args below meth c H locs 0 0 (MQ below (GQi D (mAs h) (mAs h) (WM ct h z.1) sz z.2) args U 0 0 (gA (mAs h) sz)) (F0 m 123 ls []) := by
    intro st x3 x4 H locs ls hH hl hd
    unfold M_near_J123 at hd
    refine lv_iload_n (pc := 123) hx hb dX1_near_123 rfl (lv_at hl 3 rfl) ?_
    refine lv_bipush (v := (-9 : Int32)) (pc := 124) hx hb dX1_near_124 (by decide) ?_
    refine lv_icmp_ne (pc := 126) (tgt := 133) hx hb dX1_near_126 (by decide) (fun c14 => ?_) (fun c14 => ?_)
    · have hd := if_n c14 hd
      refine lv_aload_n (pc := 133) hx hb dX1_near_133 rfl (lv_at hl 0 rfl) ?_
      refine lv_iload_n (pc := 134) hx hb dX1_near_134 rfl (lv_at hl 3 rfl) ?_
      obtain ⟨q15, hq15, hd⟩ := bs_bd hd
      refine call_M_asks (pc := 135) S hl hK hH q989 hq15 ⟨Nat.le_of_ble_eq_true rfl, Nat.le_of_ble_eq_true rfl⟩ (Nat.le_of_ble_eq_true rfl) dX1_near_135 ⟨Nat.zero_le _, Nat.zero_le _⟩ (fun H locs hH => ?_)
      exact h138 q15.1 x3 x4 q15.2 _ _ _ hH (lv_sub hl [0, 1, 2, 3, 4] rfl) hd
    · have hd := if_t c14 hd
      refine lv_iconst (v := (0 : Int32)) (pc := 129) hx hb dX1_near_129 (by decide) ?_
      refine lv_goto (pc := 130) (tgt := 138) hx hb dX1_near_130 (by decide) ?_
      exact h138 st x3 x4 (0 : Int32) _ _ _ hH (lv_sub hl [0, 1, 2, 3, 4] rfl) hd
  have h28 : ∀ (n28 : Nat) (st : MS) (x3 : Int32) (x4 : Int32) (x5 : Int32) (H : Heap) (locs : List Loc) (ls : Array Slot), GH D (gA (mAs h) sz) (mAs h) U.heap (WM ct h st) H locs → lv_has ls 7 [(0, .ref (h 0)), (1, .int a1), (2, .int a2), (3, .int x3), (4, .int x4), (5, .int x5)] → M_near_L28 (M_near_J123 a1 a2) a1 a2 n28 st x3 x4 x5 = some z → W p l e rm_M_near U m args below meth c H locs 0 0 (MQ below (GQi D (mAs h) (mAs h) (WM ct h z.1) sz z.2) args U 0 0 (gA (mAs h) sz)) (F0 m 28 ls []) := by
    intro n28
    induction n28 with
    | zero =>
      intro st x3 x4 x5 H locs ls hH hl hd
      rw [M_near_L28] at hd
      cases hd
    | succ n28 ih28 =>
      have h100 : ∀ (st : MS) (x4 : Int32) (x5 : Int32) (x6 : Int32) (y0 : Int32) (H : Heap) (locs : List Loc) (ls : Array Slot), GH D (gA (mAs h) sz) (mAs h) U.heap (WM ct h st) H locs → lv_has ls 7 [(0, .ref (h 0)), (1, .int a1), (2, .int a2), (4, .int x4), (5, .int x5), (6, .int x6)] → M_near_J100 (M_near_L28 (M_near_J123 a1 a2) a1 a2 n28) a1 a2 st x4 x5 x6 y0 = some z → W p l e rm_M_near U m args below meth c H locs 0 0 (MQ below (GQi D (mAs h) (mAs h) (WM ct h z.1) sz z.2) args U 0 0 (gA (mAs h) sz)) (F0 m 100 ls [.int y0]) := by
        intro st x4 x5 x6 y0 H locs ls hH hl hd
        unfold M_near_J100 at hd
        refine lv_istore_n (pc := 100) (lv' := [(3, .int y0), (0, .ref (h 0)), (1, .int a1), (2, .int a2), (4, .int x4), (5, .int x5), (6, .int x6)]) hx hb dX1_near_100 rfl hl (by decide) rfl (fun ls hl => ?_)
        refine lv_iload (pc := 101) hx hb dX1_near_101 (lv_at hl 6 rfl) ?_
        refine lv_iload (pc := 103) hx hb dX1_near_103 (lv_at hl 4 rfl) ?_
        refine lv_icmp_ge (pc := 105) (tgt := 113) hx hb dX1_near_105 (by decide) (fun c18 => ?_) (fun c18 => ?_)
        · have hd := if_t c18 hd
          refine lv_iload (pc := 113) hx hb dX1_near_113 (lv_at hl 4 rfl) ?_
          refine lv_istore (pc := 115) (lv' := [(4, .int x4), (3, .int y0), (0, .ref (h 0)), (1, .int a1), (2, .int a2), (5, .int x5), (6, .int x6)]) hx hb dX1_near_115 hl (by decide) rfl (fun ls hl => ?_)
          obtain ⟨w19, ew19, hd⟩ := bs_let_spec hd
          refine lv_iinc (pc := 117) (v := w19) (lv' := [(5, .int w19), (4, .int x4), (3, .int y0), (0, .ref (h 0)), (1, .int a1), (2, .int a2), (6, .int x6)]) hx hb dX1_near_117 hl (k := 5) rfl (by rw [ew19]; rfl) (by decide) rfl (fun ls hl => ?_)
          refine lv_goto (pc := 120) (tgt := 28) hx hb dX1_near_120 (by decide) ?_
          exact ih28 st y0 x4 w19 _ _ _ hH (lv_sub hl [3, 4, 5, 2, 1, 0] rfl) hd
        · have hd := if_n c18 hd
          refine lv_iload (pc := 108) hx hb dX1_near_108 (lv_at hl 6 rfl) ?_
          refine lv_goto (pc := 110) (tgt := 115) hx hb dX1_near_110 (by decide) ?_
          refine lv_istore (pc := 115) (lv' := [(4, .int x6), (3, .int y0), (0, .ref (h 0)), (1, .int a1), (2, .int a2), (5, .int x5), (6, .int x6)]) hx hb dX1_near_115 hl (by decide) rfl (fun ls hl => ?_)
          obtain ⟨w20, ew20, hd⟩ := bs_let_spec hd
          refine lv_iinc (pc := 117) (v := w20) (lv' := [(5, .int w20), (4, .int x6), (3, .int y0), (0, .ref (h 0)), (1, .int a1), (2, .int a2), (6, .int x6)]) hx hb dX1_near_117 hl (k := 5) rfl (by rw [ew20]; rfl) (by decide) rfl (fun ls hl => ?_)
          refine lv_goto (pc := 120) (tgt := 28) hx hb dX1_near_120 (by decide) ?_
          exact ih28 st y0 x6 w20 _ _ _ hH (lv_sub hl [3, 4, 5, 2, 1, 0] rfl) hd
      have h85 : ∀ (st : MS) (x3 : Int32) (x4 : Int32) (x5 : Int32) (y0 : Int32) (H : Heap) (locs : List Loc) (ls : Array Slot), GH D (gA (mAs h) sz) (mAs h) U.heap (WM ct h st) H locs → lv_has ls 7 [(0, .ref (h 0)), (1, .int a1), (2, .int a2), (3, .int x3), (4, .int x4), (5, .int x5)] → M_near_J85 (M_near_L28 (M_near_J123 a1 a2) a1 a2 n28) a1 a2 st x3 x4 x5 y0 = some z → W p l e rm_M_near U m args below meth c H locs 0 0 (MQ below (GQi D (mAs h) (mAs h) (WM ct h z.1) sz z.2) args U 0 0 (gA (mAs h) sz)) (F0 m 85 ls [.int y0]) := by
        intro st x3 x4 x5 y0 H locs ls hH hl hd
        unfold M_near_J85 at hd
        refine lv_istore (pc := 85) (lv' := [(6, .int y0), (0, .ref (h 0)), (1, .int a1), (2, .int a2), (3, .int x3), (4, .int x4), (5, .int x5)]) hx hb dX1_near_85 hl (by decide) rfl (fun ls hl => ?_)
        refine lv_iload (pc := 87) hx hb dX1_near_87 (lv_at hl 0 rfl) ?_
        refine lv_iload (pc := 89) hx hb dX1_near_89 (lv_at hl 5 rfl) ?_
        refine lv_icmp_ge (pc := 91) (tgt := 99) hx hb dX1_near_91 (by decide) (fun c16 => ?_) (fun c16 => ?_)
        · have hd := if_t c16 hd
          refine lv_iload_n (pc := 99) hx hb dX1_near_99 rfl (lv_at hl 4 rfl) ?_
          exact h100 st x4 x5 y0 x3 _ _ _ hH (lv_sub hl [1, 2, 3, 5, 6, 0] rfl) hd
        · have hd := if_n c16 hd
          refine lv_iload (pc := 94) hx hb dX1_near_94 (lv_at hl 6 rfl) ?_
          refine lv_goto (pc := 96) (tgt := 100) hx hb dX1_near_96 (by decide) ?_
          exact h100 st x4 x5 y0 x5 _ _ _ hH (lv_sub hl [1, 2, 3, 5, 6, 0] rfl) hd
      intro st x3 x4 x5 H locs ls hH hl hd
      rw [M_near_L28] at hd
      refine lv_iload (pc := 28) hx hb dX1_near_28 (lv_at hl 5 rfl) ?_
      refine lv_bipush (v := (100 : Int32)) (pc := 30) hx hb dX1_near_30 (by decide) ?_
      refine lv_icmp_ge (pc := 32) (tgt := 123) hx hb dX1_near_32 (by decide) (fun c5 => ?_) (fun c5 => ?_)
      · have hd := if_t c5 hd
        exact h123 st x3 x4 _ _ _ hH (lv_sub hl [0, 1, 2, 3, 4] rfl) hd
      · have hd := if_n c5 hd
        refine lv_aload_n (pc := 35) hx hb dX1_near_35 rfl (lv_at hl 0 rfl) ?_
        refine mg_now (pc := 36) S hK hH dX1_near_36 ?_
        refine lv_bipush (v := (71 : Int32)) (pc := 39) hx hb dX1_near_39 (by decide) ?_
        obtain ⟨v6, hv6, hd⟩ := bs_bd hd
        refine ml_now (pc := 41) S hK hH hv6 dX1_near_41 ?_
        refine lv_iload_n (pc := 42) hx hb dX1_near_42 rfl (lv_at hl 2 rfl) ?_
        obtain ⟨v7, hv7, hd⟩ := bs_bd hd
        refine call_M_has (pc := 43) S hl q1075 hv7 ⟨Nat.le_of_ble_eq_true rfl, Nat.le_of_ble_eq_true rfl⟩ (Nat.le_of_ble_eq_true rfl) dX1_near_43 ⟨Nat.zero_le _, Nat.zero_le _⟩ ?_
        refine lv_if_eq (pc := 46) (tgt := 83) hx hb dX1_near_46 (by decide) (fun c8 => ?_) (fun c8 => ?_)
        · have hd := if_t c8 hd
          refine lv_ldc (pc := 83) (own := RX1) (v := (1000000 : Int32)) hx hb S.2.2.2.1 (S.2.2.2.2 _ q1222) dX1_near_83 ?_
          exact h85 st x3 x4 x5 (1000000 : Int32) _ _ _ hH (lv_sub hl [0, 1, 2, 3, 4, 5] rfl) hd
        · have hd := if_n c8 hd
          refine lv_aload_n (pc := 49) hx hb dX1_near_49 rfl (lv_at hl 0 rfl) ?_
          refine lv_iload_n (pc := 50) hx hb dX1_near_50 rfl (lv_at hl 2 rfl) ?_
          refine lv_iload (pc := 51) hx hb dX1_near_51 (lv_at hl 5 rfl) ?_
          refine lv_aload_n (pc := 53) hx hb dX1_near_53 rfl (lv_at hl 0 rfl) ?_
          refine mg_now (pc := 54) S hK hH dX1_near_54 ?_
          refine lv_bipush (v := (70 : Int32)) (pc := 57) hx hb dX1_near_57 (by decide) ?_
          obtain ⟨v9, hv9, hd⟩ := bs_bd hd
          refine ml_now (pc := 59) S hK hH hv9 dX1_near_59 ?_
          obtain ⟨v10, hv10, hd⟩ := bs_bd hd
          refine call_M_isIn (pc := 60) S hl hK hH q1085 hv10 ⟨Nat.le_of_ble_eq_true rfl, Nat.le_of_ble_eq_true rfl⟩ (Nat.le_of_ble_eq_true rfl) dX1_near_60 ⟨Nat.zero_le _, Nat.zero_le _⟩ ?_
          refine lv_if_eq (pc := 63) (tgt := 83) hx hb dX1_near_63 (by decide) (fun c11 => ?_) (fun c11 => ?_)
          · have hd := if_t c11 hd
            refine lv_ldc (pc := 83) (own := RX1) (v := (1000000 : Int32)) hx hb S.2.2.2.1 (S.2.2.2.2 _ q1222) dX1_near_83 ?_
            exact h85 st x3 x4 x5 (1000000 : Int32) _ _ _ hH (lv_sub hl [0, 1, 2, 3, 4, 5] rfl) hd
          · have hd := if_n c11 hd
            refine lv_iload (pc := 66) hx hb dX1_near_66 (lv_at hl 5 rfl) ?_
            refine lv_aload_n (pc := 68) hx hb dX1_near_68 rfl (lv_at hl 0 rfl) ?_
            refine mg_now (pc := 69) S hK hH dX1_near_69 ?_
            refine lv_bipush (v := (72 : Int32)) (pc := 72) hx hb dX1_near_72 (by decide) ?_
            refine lv_iload_n (pc := 74) hx hb dX1_near_74 rfl (lv_at hl 1 rfl) ?_
            refine lv_iadd (pc := 75) hx hb dX1_near_75 ?_
            obtain ⟨v12, hv12, hd⟩ := bs_bd hd
            refine ml_now (pc := 76) S hK hH hv12 dX1_near_76 ?_
            obtain ⟨v13, hv13, hd⟩ := bs_bd hd
            refine call_M_distance (pc := 77) S hl q1092 hv13 ⟨Nat.le_of_ble_eq_true rfl, Nat.le_of_ble_eq_true rfl⟩ (Nat.le_of_ble_eq_true rfl) dX1_near_77 ⟨Nat.zero_le _, Nat.zero_le _⟩ ?_
            refine lv_goto (pc := 80) (tgt := 85) hx hb dX1_near_80 (by decide) ?_
            exact h85 st x3 x4 x5 v13 _ _ _ hH (lv_sub hl [0, 1, 2, 3, 4, 5] rfl) hd
  unfold M_near at hd
  refine lv_aload_n (pc := 0) hx hb dX1_near_0 rfl (lv_at hl 0 rfl) ?_
  refine lv_iload_n (pc := 1) hx hb dX1_near_1 rfl (lv_at hl 1 rfl) ?_
  obtain ⟨v1, hv1, hd⟩ := bs_bd hd
  refine call_M_isBed (pc := 2) S hl hK hH q1103 hv1 ⟨Nat.le_of_ble_eq_true rfl, Nat.le_of_ble_eq_true rfl⟩ (Nat.le_of_ble_eq_true rfl) dX1_near_2 ⟨Nat.zero_le _, Nat.zero_le _⟩ ?_
  refine lv_if_eq (pc := 5) (tgt := 16) hx hb dX1_near_5 (by decide) (fun c2 => ?_) (fun c2 => ?_)
  · have hd := if_t c2 hd
    refine lv_iconst (v := (-1 : Int32)) (pc := 16) hx hb dX1_near_16 (by decide) ?_
    exact g_iret (WM ct h) hd S hr hlk hH dX1_near_17
  · have hd := if_n c2 hd
    refine lv_aload_n (pc := 8) hx hb dX1_near_8 rfl (lv_at hl 0 rfl) ?_
    refine lv_iload_n (pc := 9) hx hb dX1_near_9 rfl (lv_at hl 2 rfl) ?_
    obtain ⟨v3, hv3, hd⟩ := bs_bd hd
    refine call_M_isRing (pc := 10) S hl hK hH q1066 hv3 ⟨Nat.le_of_ble_eq_true rfl, Nat.le_of_ble_eq_true rfl⟩ (Nat.le_of_ble_eq_true rfl) dX1_near_10 ⟨Nat.zero_le _, Nat.zero_le _⟩ ?_
    refine lv_if_ne (pc := 13) (tgt := 18) hx hb dX1_near_13 (by decide) (fun c4 => ?_) (fun c4 => ?_)
    · have hd := if_n c4 hd
      refine lv_bipush (v := (-9 : Int32)) (pc := 18) hx hb dX1_near_18 (by decide) ?_
      refine lv_istore_n (pc := 20) (lv' := [(3, .int (-9 : Int32)), (0, .ref (h 0)), (1, .int a1), (2, .int a2)]) hx hb dX1_near_20 rfl hl (by decide) rfl (fun ls hl => ?_)
      refine lv_ldc (pc := 21) (own := RX1) (v := (1000000 : Int32)) hx hb S.2.2.2.1 (S.2.2.2.2 _ q1222) dX1_near_21 ?_
      refine lv_istore (pc := 23) (lv' := [(4, .int (1000000 : Int32)), (3, .int (-9 : Int32)), (0, .ref (h 0)), (1, .int a1), (2, .int a2)]) hx hb dX1_near_23 hl (by decide) rfl (fun ls hl => ?_)
      refine lv_iconst (v := (0 : Int32)) (pc := 25) hx hb dX1_near_25 (by decide) ?_
      refine lv_istore (pc := 26) (lv' := [(5, .int (0 : Int32)), (4, .int (1000000 : Int32)), (3, .int (-9 : Int32)), (0, .ref (h 0)), (1, .int a1), (2, .int a2)]) hx hb dX1_near_26 hl (by decide) rfl (fun ls hl => ?_)
      exact h28 bs_fu st (-9 : Int32) (1000000 : Int32) (0 : Int32) _ _ _ hH (lv_sub hl [3, 4, 5, 2, 1, 0] rfl) hd
    · have hd := if_t c4 hd
      refine lv_iconst (v := (-1 : Int32)) (pc := 16) hx hb dX1_near_16 (by decide) ?_
      exact g_iret (WM ct h) hd S hr hlk hH dX1_near_17
section CR_M_near
variable {p : Program} {l : Launch} {e : Env} {R : Room} {s : State} {m : MethodId} {args : Array Value} {below : List Frame} {meth : Method} {c : Code} {H : Heap} {locs : List Loc} {cells slots : Nat} {Q : State → Prop}
variable {cc : ByteArray} {pc nL idx : Nat} {ls : Array Slot} {rest : List Value} {lv : List (Nat × Value)} {A : Nat → Prop} {H0 : Heap} {own : String}
theorem call_M_near {D : va_G} {ct : Nat → ClassId} {h : Nat → Nat} {st : MS} {a1 : Int32} {a2 : Int32} {z : (MS × Int32)} (S : CallFix p m c cc nL s args lw_all own) (hl : lv_has ls nL lv) (hK : va_K D clA (tysG ct) s) (hH : GH D A (mAs h) H0 (WM ct h st) H locs) (hlk : Cond.methodLink own idx yX1_near ∈ lw_all) (hv : M_near st a1 a2 = some z) (hR : 4 ≤ R.frames ∧ 99 ≤ R.locals) (hsum : (rest.map fun v => v.category).sum ≤ 8) (hdg : decode cc pc = .ok (.invokevirtual idx, 3)) (hf : cells ≤ R.cells ∧ slots ≤ R.slots)
    (k : ∀ (H1 : Heap) (locs1 : List Loc), GH D A (mAs h) H0 (WM ct h z.1) H1 locs1 → W p l e R s m args below meth c H1 locs1 cells slots Q (F0 m (pc + 3) ls (.int z.2 :: rest))) : W p l e R s m args below meth c H locs cells slots Q (F0 m pc ls (.int a2 :: .int a1 :: .ref (h 0) :: rest)) :=
  g_calli (av := [.int a1, .int a2]) S hl gE_0_ok trivial hK hH (met_M_near l D ct h H.size st a1 a2 z hv) (lw_V hlk q1219 q1220 q70 q1221) rfl rfl ⟨rfl, by decide, by decide, by show (parseMethodDescriptor yX1_near.desc).map (fun d => d.parameters.length) = some 2; decide +kernel⟩ hR (m_recv hK hH) (fun _ h => Or.inl h) rfl hsum hdg hf k
end CR_M_near
/-! CapCouncilModel.unmake (II)I -/
def M_unmake_J115 (k48 : MS → Int32 → Int32 → Option (MS × Int32)) (a1 : Int32) (a2 : Int32) (st : MS) (x4 : Int32) (x5 : Int32) (y0 : Int32) : Option (MS × Int32) :=
  if y0 = 0 then
    (bs_let (x5 + (1 : Int32)) fun w19 =>
    k48 st x4 w19)
  else
    (if x4 = (-9 : Int32) then
      (bs_let (x5 + (1 : Int32)) fun w21 =>
      k48 st x5 w21)
    else
      ((M_bits x5).bind fun v22 =>
      (M_bits x4).bind fun v23 =>
      if v23 ≤ v22 then
        (bs_let (x5 + (1 : Int32)) fun w25 =>
        k48 st x4 w25)
      else
        (bs_let (x5 + (1 : Int32)) fun w26 =>
        k48 st x5 w26)))
def M_unmake_L48 (k157 : MS → Int32 → Option (MS × Int32)) (a1 : Int32) (a2 : Int32) : Nat → MS → Int32 → Int32 → Option (MS × Int32)
  | 0, _, _, _ => none
  | n + 1, st, x4, x5 =>
    (bs_ld (ma st 0) 84 (0 : Int32)).bind fun v8 =>
    if ((1 : Int32) <<< (v8 &&& 31)) ≤ x5 then
      (k157 st x4)
    else
      ((bs_ld (ma st 0) 84 (71 : Int32)).bind fun v10 =>
      (M_bedsBy st (v10 &&& (x5 ^^^ (-1 : Int32)))).bind fun v11 =>
      (bs_ld (ma st 0) 84 (71 : Int32)).bind fun v12 =>
      if (x5 &&& (v12 ^^^ (-1 : Int32))) = 0 then
        (if (a1 &&& (v11 ^^^ (-1 : Int32))) = 0 then
          (if (a2 &&& v11) = 0 then
            (M_unmake_J115 (M_unmake_L48 k157 a1 a2 n) a1 a2 st x4 x5 (1 : Int32))
          else
            (M_unmake_J115 (M_unmake_L48 k157 a1 a2 n) a1 a2 st x4 x5 (0 : Int32)))
        else
          (M_unmake_J115 (M_unmake_L48 k157 a1 a2 n) a1 a2 st x4 x5 (0 : Int32)))
      else
        (M_unmake_J115 (M_unmake_L48 k157 a1 a2 n) a1 a2 st x4 x5 (0 : Int32)))
def M_unmake_J174 (a1 : Int32) (a2 : Int32) (st : MS) (x4 : Int32) (y0 : Int32) : Option (MS × Int32) :=
  if x4 = (-9 : Int32) then
    (some (st, (-9 : Int32)))
  else
    ((M_bits x4).bind fun v28 =>
    some (st, v28))
def M_unmake_J157 (a1 : Int32) (a2 : Int32) (st : MS) (x4 : Int32) : Option (MS × Int32) :=
  if x4 = (-9 : Int32) then
    (M_unmake_J174 a1 a2 st x4 (0 : Int32))
  else
    ((M_asks st x4).bind fun q17 =>
    M_unmake_J174 a1 a2 q17.1 x4 q17.2)
def M_unmake (st : MS) (a1 : Int32) (a2 : Int32) : Option (MS × Int32) :=
  (bs_ld (ma st 0) 84 (1 : Int32)).bind fun v1 =>
  bs_let (((1 : Int32) <<< (v1 &&& 31)) - (1 : Int32)) fun w2 =>
  (M_in (a1.toInt64) (0 : Int64) (w2.toInt64)).bind fun v3 =>
  if v3 = 0 then
    (some (st, (-1 : Int32)))
  else
    ((M_in (a2.toInt64) (0 : Int64) (w2.toInt64)).bind fun v5 =>
    if v5 = 0 then
      (some (st, (-1 : Int32)))
    else
      (if (a1 &&& a2) = 0 then
        (M_unmake_L48 (M_unmake_J157 a1 a2) a1 a2 bs_fu st (-9 : Int32) (0 : Int32))
      else
        (some (st, (-1 : Int32)))))
def rm_M_unmake : Room := { frames := 5, cells := 0, slots := 0, locals := 121 }
set_option maxHeartbeats 4000000 in
set_option maxRecDepth 100000 in
theorem met_M_unmake (l : Launch) (D : va_G) (ct : Nat → ClassId) (h : Nat → Nat) (sz : Nat) (st : MS) (a1 : Int32) (a2 : Int32) (z : (MS × Int32)) (hd : M_unmake st a1 a2 = some z) : Met l yX1_unmake (ws_ yX1_unmake cX1_unmake 8 (some .int)) rm_M_unmake (GPre gE_0 D ct (mAs h) (WM ct h st) sz [.ref (h 0), .int a1, .int a2]) (GQi D (mAs h) (mAs h) (WM ct h z.1) sz z.2) 0 0 (gA (mAs h) sz) := by
  refine g_met (cc := cX1_unmake) (maxL := 8) (ret := (some .int)) (by decide) (Nat.le_of_ble_eq_true rfl) ?_
  intro p e U m args below meth c ls S hr hlk hK hH hE hsz hl
  have S : CallFix p m c cX1_unmake 8 U args lw_all RX1 := S
  have hx := S.1
  have hb := S.2.1
  have hl : lv_has ls 8 [(0, .ref (h 0)), (1, .int a1), (2, .int a2)] := hl
  have h174 : ∀ (st : MS) (x4 : Int32) (y0 : Int32) (H : Heap) (locs : List Loc) (ls : Array Slot), GH D (gA (mAs h) sz) (mAs h) U.heap (WM ct h st) H locs → lv_has ls 8 [(0, .ref (h 0)), (1, .int a1), (2, .int a2), (4, .int x4)] → M_unmake_J174 a1 a2 st x4 y0 = some z → W p l e rm_M_unmake U m args below meth c H locs 0 0 (MQ below (GQi D (mAs h) (mAs h) (WM ct h z.1) sz z.2) args U 0 0 (gA (mAs h) sz)) (F0 m 174 ls [.int y0]) := by
    intro st x4 y0 H locs ls hH hl hd
    unfold M_unmake_J174 at hd
    refine lv_istore (pc := 174) (lv' := [(5, .int y0), (0, .ref (h 0)), (1, .int a1), (2, .int a2), (4, .int x4)]) hx hb dX1_unmake_174 hl (by decide) rfl (fun ls hl => ?_)
    refine lv_iload (pc := 176) hx hb dX1_unmake_176 (lv_at hl 4 rfl) ?_
    refine lv_bipush (v := (-9 : Int32)) (pc := 178) hx hb dX1_unmake_178 (by decide) ?_
    refine lv_icmp_ne (pc := 180) (tgt := 188) hx hb dX1_unmake_180 (by decide) (fun c27 => ?_) (fun c27 => ?_)
    · have hd := if_n c27 hd
      refine lv_iload (pc := 188) hx hb dX1_unmake_188 (lv_at hl 4 rfl) ?_
      obtain ⟨v28, hv28, hd⟩ := bs_bd hd
      refine call_M_bits (pc := 190) S hl q1158 hv28 ⟨Nat.le_of_ble_eq_true rfl, Nat.le_of_ble_eq_true rfl⟩ (Nat.le_of_ble_eq_true rfl) dX1_unmake_190 ⟨Nat.zero_le _, Nat.zero_le _⟩ ?_
      exact g_iret (WM ct h) hd S hr hlk hH dX1_unmake_193
    · have hd := if_t c27 hd
      refine lv_bipush (v := (-9 : Int32)) (pc := 183) hx hb dX1_unmake_183 (by decide) ?_
      refine lv_goto (pc := 185) (tgt := 193) hx hb dX1_unmake_185 (by decide) ?_
      exact g_iret (WM ct h) hd S hr hlk hH dX1_unmake_193
  have h157 : ∀ (st : MS) (x4 : Int32) (H : Heap) (locs : List Loc) (ls : Array Slot), GH D (gA (mAs h) sz) (mAs h) U.heap (WM ct h st) H locs → lv_has ls 8 [(0, .ref (h 0)), (1, .int a1), (2, .int a2), (4, .int x4)] → M_unmake_J157 a1 a2 st x4 = some z → W p l e rm_M_unmake U m args below meth c H locs 0 0 (MQ below (GQi D (mAs h) (mAs h) (WM ct h z.1) sz z.2) args U 0 0 (gA (mAs h) sz)) (F0 m 157 ls []) := by
    intro st x4 H locs ls hH hl hd
    unfold M_unmake_J157 at hd
    refine lv_iload (pc := 157) hx hb dX1_unmake_157 (lv_at hl 3 rfl) ?_
    refine lv_bipush (v := (-9 : Int32)) (pc := 159) hx hb dX1_unmake_159 (by decide) ?_
    refine lv_icmp_ne (pc := 161) (tgt := 168) hx hb dX1_unmake_161 (by decide) (fun c16 => ?_) (fun c16 => ?_)
    · have hd := if_n c16 hd
      refine lv_aload_n (pc := 168) hx hb dX1_unmake_168 rfl (lv_at hl 0 rfl) ?_
      refine lv_iload (pc := 169) hx hb dX1_unmake_169 (lv_at hl 3 rfl) ?_
      obtain ⟨q17, hq17, hd⟩ := bs_bd hd
      refine call_M_asks (pc := 171) S hl hK hH q989 hq17 ⟨Nat.le_of_ble_eq_true rfl, Nat.le_of_ble_eq_true rfl⟩ (Nat.le_of_ble_eq_true rfl) dX1_unmake_171 ⟨Nat.zero_le _, Nat.zero_le _⟩ (fun H locs hH => ?_)
      exact h174 q17.1 x4 q17.2 _ _ _ hH (lv_sub hl [0, 1, 2, 3] rfl) hd
    · have hd := if_t c16 hd
      refine lv_iconst (v := (0 : Int32)) (pc := 164) hx hb dX1_unmake_164 (by decide) ?_
      refine lv_goto (pc := 165) (tgt := 174) hx hb dX1_unmake_165 (by decide) ?_
      exact h174 st x4 (0 : Int32) _ _ _ hH (lv_sub hl [0, 1, 2, 3] rfl) hd
  have h48 : ∀ (n48 : Nat) (st : MS) (x4 : Int32) (x5 : Int32) (H : Heap) (locs : List Loc) (ls : Array Slot), GH D (gA (mAs h) sz) (mAs h) U.heap (WM ct h st) H locs → lv_has ls 8 [(0, .ref (h 0)), (1, .int a1), (2, .int a2), (4, .int x4), (5, .int x5)] → M_unmake_L48 (M_unmake_J157 a1 a2) a1 a2 n48 st x4 x5 = some z → W p l e rm_M_unmake U m args below meth c H locs 0 0 (MQ below (GQi D (mAs h) (mAs h) (WM ct h z.1) sz z.2) args U 0 0 (gA (mAs h) sz)) (F0 m 48 ls []) := by
    intro n48
    induction n48 with
    | zero =>
      intro st x4 x5 H locs ls hH hl hd
      rw [M_unmake_L48] at hd
      cases hd
    | succ n48 ih48 =>
      have h115 : ∀ (st : MS) (x4 : Int32) (x5 : Int32) (y0 : Int32) (H : Heap) (locs : List Loc) (ls : Array Slot), GH D (gA (mAs h) sz) (mAs h) U.heap (WM ct h st) H locs → lv_has ls 8 [(0, .ref (h 0)), (1, .int a1), (2, .int a2), (4, .int x4), (5, .int x5)] → M_unmake_J115 (M_unmake_L48 (M_unmake_J157 a1 a2) a1 a2 n48) a1 a2 st x4 x5 y0 = some z → W p l e rm_M_unmake U m args below meth c H locs 0 0 (MQ below (GQi D (mAs h) (mAs h) (WM ct h z.1) sz z.2) args U 0 0 (gA (mAs h) sz)) (F0 m 115 ls [.int y0]) := by
        intro st x4 x5 y0 H locs ls hH hl hd
        unfold M_unmake_J115 at hd
        refine lv_istore (pc := 115) (lv' := [(7, .int y0), (0, .ref (h 0)), (1, .int a1), (2, .int a2), (4, .int x4), (5, .int x5)]) hx hb dX1_unmake_115 hl (by decide) rfl (fun ls hl => ?_)
        refine lv_iload (pc := 117) hx hb dX1_unmake_117 (lv_at hl 0 rfl) ?_
        refine lv_if_eq (pc := 119) (tgt := 147) hx hb dX1_unmake_119 (by decide) (fun c18 => ?_) (fun c18 => ?_)
        · have hd := if_t c18 hd
          refine lv_iload (pc := 147) hx hb dX1_unmake_147 (lv_at hl 4 rfl) ?_
          refine lv_istore (pc := 149) (lv' := [(4, .int x4), (7, .int y0), (0, .ref (h 0)), (1, .int a1), (2, .int a2), (5, .int x5)]) hx hb dX1_unmake_149 hl (by decide) rfl (fun ls hl => ?_)
          obtain ⟨w19, ew19, hd⟩ := bs_let_spec hd
          refine lv_iinc (pc := 151) (v := w19) (lv' := [(5, .int w19), (4, .int x4), (7, .int y0), (0, .ref (h 0)), (1, .int a1), (2, .int a2)]) hx hb dX1_unmake_151 hl (k := 5) rfl (by rw [ew19]; rfl) (by decide) rfl (fun ls hl => ?_)
          refine lv_goto (pc := 154) (tgt := 48) hx hb dX1_unmake_154 (by decide) ?_
          exact ih48 st x4 w19 _ _ _ hH (lv_sub hl [3, 4, 5, 1, 0] rfl) hd
        · have hd := if_n c18 hd
          refine lv_iload (pc := 122) hx hb dX1_unmake_122 (lv_at hl 4 rfl) ?_
          refine lv_bipush (v := (-9 : Int32)) (pc := 124) hx hb dX1_unmake_124 (by decide) ?_
          refine lv_icmp_eq (pc := 126) (tgt := 142) hx hb dX1_unmake_126 (by decide) (fun c20 => ?_) (fun c20 => ?_)
          · have hd := if_t c20 hd
            refine lv_iload (pc := 142) hx hb dX1_unmake_142 (lv_at hl 5 rfl) ?_
            refine lv_goto (pc := 144) (tgt := 149) hx hb dX1_unmake_144 (by decide) ?_
            refine lv_istore (pc := 149) (lv' := [(4, .int x5), (7, .int y0), (0, .ref (h 0)), (1, .int a1), (2, .int a2), (5, .int x5)]) hx hb dX1_unmake_149 hl (by decide) rfl (fun ls hl => ?_)
            obtain ⟨w21, ew21, hd⟩ := bs_let_spec hd
            refine lv_iinc (pc := 151) (v := w21) (lv' := [(5, .int w21), (4, .int x5), (7, .int y0), (0, .ref (h 0)), (1, .int a1), (2, .int a2)]) hx hb dX1_unmake_151 hl (k := 5) rfl (by rw [ew21]; rfl) (by decide) rfl (fun ls hl => ?_)
            refine lv_goto (pc := 154) (tgt := 48) hx hb dX1_unmake_154 (by decide) ?_
            exact ih48 st x5 w21 _ _ _ hH (lv_sub hl [3, 4, 5, 1, 0] rfl) hd
          · have hd := if_n c20 hd
            refine lv_iload (pc := 129) hx hb dX1_unmake_129 (lv_at hl 5 rfl) ?_
            obtain ⟨v22, hv22, hd⟩ := bs_bd hd
            refine call_M_bits (pc := 131) S hl q1158 hv22 ⟨Nat.le_of_ble_eq_true rfl, Nat.le_of_ble_eq_true rfl⟩ (Nat.le_of_ble_eq_true rfl) dX1_unmake_131 ⟨Nat.zero_le _, Nat.zero_le _⟩ ?_
            refine lv_iload (pc := 134) hx hb dX1_unmake_134 (lv_at hl 4 rfl) ?_
            obtain ⟨v23, hv23, hd⟩ := bs_bd hd
            refine call_M_bits (pc := 136) S hl q1158 hv23 ⟨Nat.le_of_ble_eq_true rfl, Nat.le_of_ble_eq_true rfl⟩ (Nat.le_of_ble_eq_true rfl) dX1_unmake_136 ⟨Nat.zero_le _, Nat.zero_le _⟩ ?_
            refine lv_icmp_ge (pc := 139) (tgt := 147) hx hb dX1_unmake_139 (by decide) (fun c24 => ?_) (fun c24 => ?_)
            · have hd := if_t c24 hd
              refine lv_iload (pc := 147) hx hb dX1_unmake_147 (lv_at hl 4 rfl) ?_
              refine lv_istore (pc := 149) (lv' := [(4, .int x4), (7, .int y0), (0, .ref (h 0)), (1, .int a1), (2, .int a2), (5, .int x5)]) hx hb dX1_unmake_149 hl (by decide) rfl (fun ls hl => ?_)
              obtain ⟨w25, ew25, hd⟩ := bs_let_spec hd
              refine lv_iinc (pc := 151) (v := w25) (lv' := [(5, .int w25), (4, .int x4), (7, .int y0), (0, .ref (h 0)), (1, .int a1), (2, .int a2)]) hx hb dX1_unmake_151 hl (k := 5) rfl (by rw [ew25]; rfl) (by decide) rfl (fun ls hl => ?_)
              refine lv_goto (pc := 154) (tgt := 48) hx hb dX1_unmake_154 (by decide) ?_
              exact ih48 st x4 w25 _ _ _ hH (lv_sub hl [3, 4, 5, 1, 0] rfl) hd
            · have hd := if_n c24 hd
              refine lv_iload (pc := 142) hx hb dX1_unmake_142 (lv_at hl 5 rfl) ?_
              refine lv_goto (pc := 144) (tgt := 149) hx hb dX1_unmake_144 (by decide) ?_
              refine lv_istore (pc := 149) (lv' := [(4, .int x5), (7, .int y0), (0, .ref (h 0)), (1, .int a1), (2, .int a2), (5, .int x5)]) hx hb dX1_unmake_149 hl (by decide) rfl (fun ls hl => ?_)
              obtain ⟨w26, ew26, hd⟩ := bs_let_spec hd
              refine lv_iinc (pc := 151) (v := w26) (lv' := [(5, .int w26), (4, .int x5), (7, .int y0), (0, .ref (h 0)), (1, .int a1), (2, .int a2)]) hx hb dX1_unmake_151 hl (k := 5) rfl (by rw [ew26]; rfl) (by decide) rfl (fun ls hl => ?_)
              refine lv_goto (pc := 154) (tgt := 48) hx hb dX1_unmake_154 (by decide) ?_
              exact ih48 st x5 w26 _ _ _ hH (lv_sub hl [3, 4, 5, 1, 0] rfl) hd
      intro st x4 x5 H locs ls hH hl hd
      rw [M_unmake_L48] at hd
      refine lv_iload (pc := 48) hx hb dX1_unmake_48 (lv_at hl 4 rfl) ?_
      refine lv_iconst (v := (1 : Int32)) (pc := 50) hx hb dX1_unmake_50 (by decide) ?_
      refine lv_aload_n (pc := 51) hx hb dX1_unmake_51 rfl (lv_at hl 0 rfl) ?_
      refine mg_now (pc := 52) S hK hH dX1_unmake_52 ?_
      refine lv_iconst (v := (0 : Int32)) (pc := 55) hx hb dX1_unmake_55 (by decide) ?_
      obtain ⟨v8, hv8, hd⟩ := bs_bd hd
      refine ml_now (pc := 56) S hK hH hv8 dX1_unmake_56 ?_
      refine lv_ishl (pc := 57) hx hb dX1_unmake_57 ?_
      refine lv_icmp_ge (pc := 58) (tgt := 157) hx hb dX1_unmake_58 (by decide) (fun c9 => ?_) (fun c9 => ?_)
      · have hd := if_t c9 hd
        exact h157 st x4 _ _ _ hH (lv_sub hl [0, 1, 2, 3] rfl) hd
      · have hd := if_n c9 hd
        refine lv_aload_n (pc := 61) hx hb dX1_unmake_61 rfl (lv_at hl 0 rfl) ?_
        refine lv_aload_n (pc := 62) hx hb dX1_unmake_62 rfl (lv_at hl 0 rfl) ?_
        refine mg_now (pc := 63) S hK hH dX1_unmake_63 ?_
        refine lv_bipush (v := (71 : Int32)) (pc := 66) hx hb dX1_unmake_66 (by decide) ?_
        obtain ⟨v10, hv10, hd⟩ := bs_bd hd
        refine ml_now (pc := 68) S hK hH hv10 dX1_unmake_68 ?_
        refine lv_iload (pc := 69) hx hb dX1_unmake_69 (lv_at hl 4 rfl) ?_
        refine lv_iconst (v := (-1 : Int32)) (pc := 71) hx hb dX1_unmake_71 (by decide) ?_
        refine lv_ixor (pc := 72) hx hb dX1_unmake_72 ?_
        refine lv_iand (pc := 73) hx hb dX1_unmake_73 ?_
        obtain ⟨v11, hv11, hd⟩ := bs_bd hd
        refine call_M_bedsBy (pc := 74) S hl hK hH q1154 hv11 ⟨Nat.le_of_ble_eq_true rfl, Nat.le_of_ble_eq_true rfl⟩ (Nat.le_of_ble_eq_true rfl) dX1_unmake_74 ⟨Nat.zero_le _, Nat.zero_le _⟩ ?_
        refine lv_istore (pc := 77) (lv' := [(6, .int v11), (0, .ref (h 0)), (1, .int a1), (2, .int a2), (4, .int x4), (5, .int x5)]) hx hb dX1_unmake_77 hl (by decide) rfl (fun ls hl => ?_)
        refine lv_iload (pc := 79) hx hb dX1_unmake_79 (lv_at hl 5 rfl) ?_
        refine lv_aload_n (pc := 81) hx hb dX1_unmake_81 rfl (lv_at hl 1 rfl) ?_
        refine mg_now (pc := 82) S hK hH dX1_unmake_82 ?_
        refine lv_bipush (v := (71 : Int32)) (pc := 85) hx hb dX1_unmake_85 (by decide) ?_
        obtain ⟨v12, hv12, hd⟩ := bs_bd hd
        refine ml_now (pc := 87) S hK hH hv12 dX1_unmake_87 ?_
        refine lv_iconst (v := (-1 : Int32)) (pc := 88) hx hb dX1_unmake_88 (by decide) ?_
        refine lv_ixor (pc := 89) hx hb dX1_unmake_89 ?_
        refine lv_iand (pc := 90) hx hb dX1_unmake_90 ?_
        refine lv_if_ne (pc := 91) (tgt := 114) hx hb dX1_unmake_91 (by decide) (fun c13 => ?_) (fun c13 => ?_)
        · have hd := if_n c13 hd
          refine lv_iconst (v := (0 : Int32)) (pc := 114) hx hb dX1_unmake_114 (by decide) ?_
          exact h115 st x4 x5 (0 : Int32) _ _ _ hH (lv_sub hl [1, 2, 3, 4, 5] rfl) hd
        · have hd := if_t c13 hd
          refine lv_iload_n (pc := 94) hx hb dX1_unmake_94 rfl (lv_at hl 2 rfl) ?_
          refine lv_iload (pc := 95) hx hb dX1_unmake_95 (lv_at hl 0 rfl) ?_
          refine lv_iconst (v := (-1 : Int32)) (pc := 97) hx hb dX1_unmake_97 (by decide) ?_
          refine lv_ixor (pc := 98) hx hb dX1_unmake_98 ?_
          refine lv_iand (pc := 99) hx hb dX1_unmake_99 ?_
          refine lv_if_ne (pc := 100) (tgt := 114) hx hb dX1_unmake_100 (by decide) (fun c14 => ?_) (fun c14 => ?_)
          · have hd := if_n c14 hd
            refine lv_iconst (v := (0 : Int32)) (pc := 114) hx hb dX1_unmake_114 (by decide) ?_
            exact h115 st x4 x5 (0 : Int32) _ _ _ hH (lv_sub hl [1, 2, 3, 4, 5] rfl) hd
          · have hd := if_t c14 hd
            refine lv_iload_n (pc := 103) hx hb dX1_unmake_103 rfl (lv_at hl 3 rfl) ?_
            refine lv_iload (pc := 104) hx hb dX1_unmake_104 (lv_at hl 0 rfl) ?_
            refine lv_iand (pc := 106) hx hb dX1_unmake_106 ?_
            refine lv_if_ne (pc := 107) (tgt := 114) hx hb dX1_unmake_107 (by decide) (fun c15 => ?_) (fun c15 => ?_)
            · have hd := if_n c15 hd
              refine lv_iconst (v := (0 : Int32)) (pc := 114) hx hb dX1_unmake_114 (by decide) ?_
              exact h115 st x4 x5 (0 : Int32) _ _ _ hH (lv_sub hl [1, 2, 3, 4, 5] rfl) hd
            · have hd := if_t c15 hd
              refine lv_iconst (v := (1 : Int32)) (pc := 110) hx hb dX1_unmake_110 (by decide) ?_
              refine lv_goto (pc := 111) (tgt := 115) hx hb dX1_unmake_111 (by decide) ?_
              exact h115 st x4 x5 (1 : Int32) _ _ _ hH (lv_sub hl [1, 2, 3, 4, 5] rfl) hd
  unfold M_unmake at hd
  refine lv_iconst (v := (1 : Int32)) (pc := 0) hx hb dX1_unmake_0 (by decide) ?_
  refine lv_aload_n (pc := 1) hx hb dX1_unmake_1 rfl (lv_at hl 0 rfl) ?_
  refine mg_now (pc := 2) S hK hH dX1_unmake_2 ?_
  refine lv_iconst (v := (1 : Int32)) (pc := 5) hx hb dX1_unmake_5 (by decide) ?_
  obtain ⟨v1, hv1, hd⟩ := bs_bd hd
  refine ml_now (pc := 6) S hK hH hv1 dX1_unmake_6 ?_
  refine lv_ishl (pc := 7) hx hb dX1_unmake_7 ?_
  refine lv_iconst (v := (1 : Int32)) (pc := 8) hx hb dX1_unmake_8 (by decide) ?_
  refine lv_isub (pc := 9) hx hb dX1_unmake_9 ?_
  obtain ⟨w2, ew2, hd⟩ := bs_let_spec hd
  refine lv_topE (pc := 10) ew2 ?_
  refine lv_istore_n (pc := 10) (lv' := [(3, .int w2), (0, .ref (h 0)), (1, .int a1), (2, .int a2)]) hx hb dX1_unmake_10 rfl hl (by decide) rfl (fun ls hl => ?_)
  refine lv_iload_n (pc := 11) hx hb dX1_unmake_11 rfl (lv_at hl 2 rfl) ?_
  refine lv_i2l (pc := 12) hx hb dX1_unmake_12 rfl ?_
  refine lv_lconst (v := (0 : Int64)) (pc := 13) hx hb dX1_unmake_13 (by decide) ?_
  refine lv_iload_n (pc := 14) hx hb dX1_unmake_14 rfl (lv_at hl 0 rfl) ?_
  refine lv_i2l (pc := 15) hx hb dX1_unmake_15 rfl ?_
  obtain ⟨v3, hv3, hd⟩ := bs_bd hd
  refine call_M_in (pc := 16) S hl q974 hv3 ⟨Nat.le_of_ble_eq_true rfl, Nat.le_of_ble_eq_true rfl⟩ (Nat.le_of_ble_eq_true rfl) dX1_unmake_16 ⟨Nat.zero_le _, Nat.zero_le _⟩ ?_
  refine lv_if_eq (pc := 19) (tgt := 39) hx hb dX1_unmake_19 (by decide) (fun c4 => ?_) (fun c4 => ?_)
  · have hd := if_t c4 hd
    refine lv_iconst (v := (-1 : Int32)) (pc := 39) hx hb dX1_unmake_39 (by decide) ?_
    exact g_iret (WM ct h) hd S hr hlk hH dX1_unmake_40
  · have hd := if_n c4 hd
    refine lv_iload_n (pc := 22) hx hb dX1_unmake_22 rfl (lv_at hl 3 rfl) ?_
    refine lv_i2l (pc := 23) hx hb dX1_unmake_23 rfl ?_
    refine lv_lconst (v := (0 : Int64)) (pc := 24) hx hb dX1_unmake_24 (by decide) ?_
    refine lv_iload_n (pc := 25) hx hb dX1_unmake_25 rfl (lv_at hl 0 rfl) ?_
    refine lv_i2l (pc := 26) hx hb dX1_unmake_26 rfl ?_
    obtain ⟨v5, hv5, hd⟩ := bs_bd hd
    refine call_M_in (pc := 27) S hl q974 hv5 ⟨Nat.le_of_ble_eq_true rfl, Nat.le_of_ble_eq_true rfl⟩ (Nat.le_of_ble_eq_true rfl) dX1_unmake_27 ⟨Nat.zero_le _, Nat.zero_le _⟩ ?_
    refine lv_if_eq (pc := 30) (tgt := 39) hx hb dX1_unmake_30 (by decide) (fun c6 => ?_) (fun c6 => ?_)
    · have hd := if_t c6 hd
      refine lv_iconst (v := (-1 : Int32)) (pc := 39) hx hb dX1_unmake_39 (by decide) ?_
      exact g_iret (WM ct h) hd S hr hlk hH dX1_unmake_40
    · have hd := if_n c6 hd
      refine lv_iload_n (pc := 33) hx hb dX1_unmake_33 rfl (lv_at hl 2 rfl) ?_
      refine lv_iload_n (pc := 34) hx hb dX1_unmake_34 rfl (lv_at hl 3 rfl) ?_
      refine lv_iand (pc := 35) hx hb dX1_unmake_35 ?_
      refine lv_if_eq (pc := 36) (tgt := 41) hx hb dX1_unmake_36 (by decide) (fun c7 => ?_) (fun c7 => ?_)
      · have hd := if_t c7 hd
        refine lv_bipush (v := (-9 : Int32)) (pc := 41) hx hb dX1_unmake_41 (by decide) ?_
        refine lv_istore (pc := 43) (lv' := [(4, .int (-9 : Int32)), (3, .int w2), (0, .ref (h 0)), (1, .int a1), (2, .int a2)]) hx hb dX1_unmake_43 hl (by decide) rfl (fun ls hl => ?_)
        refine lv_iconst (v := (0 : Int32)) (pc := 45) hx hb dX1_unmake_45 (by decide) ?_
        refine lv_istore (pc := 46) (lv' := [(5, .int (0 : Int32)), (4, .int (-9 : Int32)), (3, .int w2), (0, .ref (h 0)), (1, .int a1), (2, .int a2)]) hx hb dX1_unmake_46 hl (by decide) rfl (fun ls hl => ?_)
        exact h48 bs_fu st (-9 : Int32) (0 : Int32) _ _ _ hH (lv_sub hl [3, 4, 5, 1, 0] rfl) hd
      · have hd := if_n c7 hd
        refine lv_iconst (v := (-1 : Int32)) (pc := 39) hx hb dX1_unmake_39 (by decide) ?_
        exact g_iret (WM ct h) hd S hr hlk hH dX1_unmake_40
section CR_M_unmake
variable {p : Program} {l : Launch} {e : Env} {R : Room} {s : State} {m : MethodId} {args : Array Value} {below : List Frame} {meth : Method} {c : Code} {H : Heap} {locs : List Loc} {cells slots : Nat} {Q : State → Prop}
variable {cc : ByteArray} {pc nL idx : Nat} {ls : Array Slot} {rest : List Value} {lv : List (Nat × Value)} {A : Nat → Prop} {H0 : Heap} {own : String}
theorem call_M_unmake {D : va_G} {ct : Nat → ClassId} {h : Nat → Nat} {st : MS} {a1 : Int32} {a2 : Int32} {z : (MS × Int32)} (S : CallFix p m c cc nL s args lw_all own) (hl : lv_has ls nL lv) (hK : va_K D clA (tysG ct) s) (hH : GH D A (mAs h) H0 (WM ct h st) H locs) (hlk : Cond.methodLink own idx yX1_unmake ∈ lw_all) (hv : M_unmake st a1 a2 = some z) (hR : 6 ≤ R.frames ∧ 148 ≤ R.locals) (hsum : (rest.map fun v => v.category).sum ≤ 8) (hdg : decode cc pc = .ok (.invokevirtual idx, 3)) (hf : cells ≤ R.cells ∧ slots ≤ R.slots)
    (k : ∀ (H1 : Heap) (locs1 : List Loc), GH D A (mAs h) H0 (WM ct h z.1) H1 locs1 → W p l e R s m args below meth c H1 locs1 cells slots Q (F0 m (pc + 3) ls (.int z.2 :: rest))) : W p l e R s m args below meth c H locs cells slots Q (F0 m pc ls (.int a2 :: .int a1 :: .ref (h 0) :: rest)) :=
  g_calli (av := [.int a1, .int a2]) S hl gE_0_ok trivial hK hH (met_M_unmake l D ct h H.size st a1 a2 z hv) (lw_V hlk q1224 q1225 q70 q1226) rfl rfl ⟨rfl, by decide, by decide, by show (parseMethodDescriptor yX1_unmake.desc).map (fun d => d.parameters.length) = some 2; decide +kernel⟩ hR (m_recv hK hH) (fun _ h => Or.inl h) rfl hsum hdg hf k
end CR_M_unmake
/-! CapCouncilModel.decidedBy (I)I -/
def M_decidedBy_J35 (k4 : Int32 → Int32 → Option Int32) (st : MS) (a1 : Int32) (x2 : Int32) (x3 : Int32) (y0 : Int32) : Option Int32 :=
  if y0 = (-9 : Int32) then
    (bs_let (x2 + (0 : Int32)) fun w10 =>
    bs_let (x3 + (1 : Int32)) fun w11 =>
    k4 w10 w11)
  else
    (bs_let (x2 + y0) fun w8 =>
    bs_let (x3 + (1 : Int32)) fun w9 =>
    k4 w8 w9)
def M_decidedBy_L4 (st : MS) (a1 : Int32) : Nat → Int32 → Int32 → Option Int32
  | 0, _, _ => none
  | n + 1, x2, x3 =>
    (bs_ld (ma st 0) 84 (0 : Int32)).bind fun v1 =>
    if v1 ≤ x3 then
      (some x2)
    else
      ((M_has a1 x3).bind fun v3 =>
      if v3 = 0 then
        (M_decidedBy_J35 (M_decidedBy_L4 st a1 n) st a1 x2 x3 (0 : Int32))
      else
        ((M_bedsIn st x3).bind fun v5 =>
        (M_decided st v5).bind fun v6 =>
        M_decidedBy_J35 (M_decidedBy_L4 st a1 n) st a1 x2 x3 v6))
def M_decidedBy (st : MS) (a1 : Int32) : Option Int32 :=
  M_decidedBy_L4 st a1 bs_fu (0 : Int32) (0 : Int32)
def rm_M_decidedBy : Room := { frames := 4, cells := 0, slots := 0, locals := 96 }
set_option maxHeartbeats 4000000 in
set_option maxRecDepth 100000 in
theorem met_M_decidedBy (l : Launch) (D : va_G) (ct : Nat → ClassId) (h : Nat → Nat) (sz : Nat) (st : MS) (a1 : Int32) (z : Int32) (hd : M_decidedBy st a1 = some z) : Met l yX1_decidedBy (ws_ yX1_decidedBy cX1_decidedBy 5 (some .int)) rm_M_decidedBy (GPre gE_0 D ct (mAs h) (WM ct h st) sz [.ref (h 0), .int a1]) (vp_Si (fun r => r = z)) 0 0 (fun _ => False) := by
  refine g_met (cc := cX1_decidedBy) (maxL := 5) (ret := (some .int)) (by decide) (Nat.le_of_ble_eq_true rfl) ?_
  intro p e U m args below meth c ls S hr hlk hK hH hE hsz hl
  have S : CallFix p m c cX1_decidedBy 5 U args lw_all RX1 := S
  have hx := S.1
  have hb := S.2.1
  have hl : lv_has ls 5 [(0, .ref (h 0)), (1, .int a1)] := hl
  have h4 : ∀ (n4 : Nat) (x2 : Int32) (x3 : Int32) (ls : Array Slot), lv_has ls 5 [(0, .ref (h 0)), (1, .int a1), (2, .int x2), (3, .int x3)] → M_decidedBy_L4 st a1 n4 x2 x3 = some z → W p l e rm_M_decidedBy U m args below meth c U.heap [] 0 0 (MQ below (vp_Si (fun r => r = z)) args U 0 0 (fun _ => False)) (F0 m 4 ls []) := by
    intro n4
    induction n4 with
    | zero =>
      intro x2 x3 ls hl hd
      rw [M_decidedBy_L4] at hd
      cases hd
    | succ n4 ih4 =>
      have h35 : ∀ (x2 : Int32) (x3 : Int32) (y0 : Int32) (ls : Array Slot), lv_has ls 5 [(0, .ref (h 0)), (1, .int a1), (2, .int x2), (3, .int x3)] → M_decidedBy_J35 (M_decidedBy_L4 st a1 n4) st a1 x2 x3 y0 = some z → W p l e rm_M_decidedBy U m args below meth c U.heap [] 0 0 (MQ below (vp_Si (fun r => r = z)) args U 0 0 (fun _ => False)) (F0 m 35 ls [.int y0]) := by
        intro x2 x3 y0 ls hl hd
        unfold M_decidedBy_J35 at hd
        refine lv_istore (pc := 35) (lv' := [(4, .int y0), (0, .ref (h 0)), (1, .int a1), (2, .int x2), (3, .int x3)]) hx hb dX1_decidedBy_35 hl (by decide) rfl (fun ls hl => ?_)
        refine lv_iload_n (pc := 37) hx hb dX1_decidedBy_37 rfl (lv_at hl 3 rfl) ?_
        refine lv_iload (pc := 38) hx hb dX1_decidedBy_38 (lv_at hl 0 rfl) ?_
        refine lv_bipush (v := (-9 : Int32)) (pc := 40) hx hb dX1_decidedBy_40 (by decide) ?_
        refine lv_icmp_ne (pc := 42) (tgt := 49) hx hb dX1_decidedBy_42 (by decide) (fun c7 => ?_) (fun c7 => ?_)
        · have hd := if_n c7 hd
          refine lv_iload (pc := 49) hx hb dX1_decidedBy_49 (lv_at hl 0 rfl) ?_
          refine lv_iadd (pc := 51) hx hb dX1_decidedBy_51 ?_
          obtain ⟨w8, ew8, hd⟩ := bs_let_spec hd
          refine lv_topE (pc := 52) ew8 ?_
          refine lv_istore_n (pc := 52) (lv' := [(2, .int w8), (4, .int y0), (0, .ref (h 0)), (1, .int a1), (3, .int x3)]) hx hb dX1_decidedBy_52 rfl hl (by decide) rfl (fun ls hl => ?_)
          obtain ⟨w9, ew9, hd⟩ := bs_let_spec hd
          refine lv_iinc (pc := 53) (v := w9) (lv' := [(3, .int w9), (2, .int w8), (4, .int y0), (0, .ref (h 0)), (1, .int a1)]) hx hb dX1_decidedBy_53 hl (k := 4) rfl (by rw [ew9]; rfl) (by decide) rfl (fun ls hl => ?_)
          refine lv_goto (pc := 56) (tgt := 4) hx hb dX1_decidedBy_56 (by decide) ?_
          exact ih4 w8 w9 _ (lv_sub hl [3, 4, 1, 0] rfl) hd
        · have hd := if_t c7 hd
          refine lv_iconst (v := (0 : Int32)) (pc := 45) hx hb dX1_decidedBy_45 (by decide) ?_
          refine lv_goto (pc := 46) (tgt := 51) hx hb dX1_decidedBy_46 (by decide) ?_
          refine lv_iadd (pc := 51) hx hb dX1_decidedBy_51 ?_
          obtain ⟨w10, ew10, hd⟩ := bs_let_spec hd
          refine lv_topE (pc := 52) ew10 ?_
          refine lv_istore_n (pc := 52) (lv' := [(2, .int w10), (4, .int y0), (0, .ref (h 0)), (1, .int a1), (3, .int x3)]) hx hb dX1_decidedBy_52 rfl hl (by decide) rfl (fun ls hl => ?_)
          obtain ⟨w11, ew11, hd⟩ := bs_let_spec hd
          refine lv_iinc (pc := 53) (v := w11) (lv' := [(3, .int w11), (2, .int w10), (4, .int y0), (0, .ref (h 0)), (1, .int a1)]) hx hb dX1_decidedBy_53 hl (k := 4) rfl (by rw [ew11]; rfl) (by decide) rfl (fun ls hl => ?_)
          refine lv_goto (pc := 56) (tgt := 4) hx hb dX1_decidedBy_56 (by decide) ?_
          exact ih4 w10 w11 _ (lv_sub hl [3, 4, 1, 0] rfl) hd
      intro x2 x3 ls hl hd
      rw [M_decidedBy_L4] at hd
      refine lv_iload_n (pc := 4) hx hb dX1_decidedBy_4 rfl (lv_at hl 3 rfl) ?_
      refine lv_aload_n (pc := 5) hx hb dX1_decidedBy_5 rfl (lv_at hl 0 rfl) ?_
      refine mg_now (pc := 6) S hK hH dX1_decidedBy_6 ?_
      refine lv_iconst (v := (0 : Int32)) (pc := 9) hx hb dX1_decidedBy_9 (by decide) ?_
      obtain ⟨v1, hv1, hd⟩ := bs_bd hd
      refine ml_now (pc := 10) S hK hH hv1 dX1_decidedBy_10 ?_
      refine lv_icmp_ge (pc := 11) (tgt := 59) hx hb dX1_decidedBy_11 (by decide) (fun c2 => ?_) (fun c2 => ?_)
      · have hd := if_t c2 hd
        refine lv_iload_n (pc := 59) hx hb dX1_decidedBy_59 rfl (lv_at hl 2 rfl) ?_
        exact r_iret hd S hr hlk dX1_decidedBy_60
      · have hd := if_n c2 hd
        refine lv_iload_n (pc := 14) hx hb dX1_decidedBy_14 rfl (lv_at hl 1 rfl) ?_
        refine lv_iload_n (pc := 15) hx hb dX1_decidedBy_15 rfl (lv_at hl 3 rfl) ?_
        obtain ⟨v3, hv3, hd⟩ := bs_bd hd
        refine call_M_has (pc := 16) S hl q1075 hv3 ⟨Nat.le_of_ble_eq_true rfl, Nat.le_of_ble_eq_true rfl⟩ (Nat.le_of_ble_eq_true rfl) dX1_decidedBy_16 ⟨Nat.zero_le _, Nat.zero_le _⟩ ?_
        refine lv_if_eq (pc := 19) (tgt := 34) hx hb dX1_decidedBy_19 (by decide) (fun c4 => ?_) (fun c4 => ?_)
        · have hd := if_t c4 hd
          refine lv_iconst (v := (0 : Int32)) (pc := 34) hx hb dX1_decidedBy_34 (by decide) ?_
          exact h35 x2 x3 (0 : Int32) _ (lv_sub hl [0, 1, 2, 3] rfl) hd
        · have hd := if_n c4 hd
          refine lv_aload_n (pc := 22) hx hb dX1_decidedBy_22 rfl (lv_at hl 0 rfl) ?_
          refine lv_aload_n (pc := 23) hx hb dX1_decidedBy_23 rfl (lv_at hl 0 rfl) ?_
          refine lv_iload_n (pc := 24) hx hb dX1_decidedBy_24 rfl (lv_at hl 3 rfl) ?_
          obtain ⟨v5, hv5, hd⟩ := bs_bd hd
          refine call_M_bedsIn (pc := 25) S hl hK hH q1081 hv5 ⟨Nat.le_of_ble_eq_true rfl, Nat.le_of_ble_eq_true rfl⟩ (Nat.le_of_ble_eq_true rfl) dX1_decidedBy_25 ⟨Nat.zero_le _, Nat.zero_le _⟩ ?_
          obtain ⟨v6, hv6, hd⟩ := bs_bd hd
          refine call_M_decided (pc := 28) S hl hK hH q1095 hv6 ⟨Nat.le_of_ble_eq_true rfl, Nat.le_of_ble_eq_true rfl⟩ (Nat.le_of_ble_eq_true rfl) dX1_decidedBy_28 ⟨Nat.zero_le _, Nat.zero_le _⟩ ?_
          refine lv_goto (pc := 31) (tgt := 35) hx hb dX1_decidedBy_31 (by decide) ?_
          exact h35 x2 x3 v6 _ (lv_sub hl [0, 1, 2, 3] rfl) hd
  unfold M_decidedBy at hd
  refine lv_iconst (v := (0 : Int32)) (pc := 0) hx hb dX1_decidedBy_0 (by decide) ?_
  refine lv_istore_n (pc := 1) (lv' := [(2, .int (0 : Int32)), (0, .ref (h 0)), (1, .int a1)]) hx hb dX1_decidedBy_1 rfl hl (by decide) rfl (fun ls hl => ?_)
  refine lv_iconst (v := (0 : Int32)) (pc := 2) hx hb dX1_decidedBy_2 (by decide) ?_
  refine lv_istore_n (pc := 3) (lv' := [(3, .int (0 : Int32)), (2, .int (0 : Int32)), (0, .ref (h 0)), (1, .int a1)]) hx hb dX1_decidedBy_3 rfl hl (by decide) rfl (fun ls hl => ?_)
  exact h4 bs_fu (0 : Int32) (0 : Int32) _ (lv_sub hl [2, 3, 1, 0] rfl) hd
section CR_M_decidedBy
variable {p : Program} {l : Launch} {e : Env} {R : Room} {s : State} {m : MethodId} {args : Array Value} {below : List Frame} {meth : Method} {c : Code} {H : Heap} {locs : List Loc} {cells slots : Nat} {Q : State → Prop}
variable {cc : ByteArray} {pc nL idx : Nat} {ls : Array Slot} {rest : List Value} {lv : List (Nat × Value)} {A : Nat → Prop} {H0 : Heap} {own : String}
theorem call_M_decidedBy {D : va_G} {ct : Nat → ClassId} {h : Nat → Nat} {st : MS} {a1 : Int32} {z : Int32} (S : CallFix p m c cc nL s args lw_all own) (hl : lv_has ls nL lv) (hK : va_K D clA (tysG ct) s) (hH : GH D A (mAs h) H0 (WM ct h st) H locs) (hlk : Cond.methodLink own idx yX1_decidedBy ∈ lw_all) (hv : M_decidedBy st a1 = some z) (hR : 5 ≤ R.frames ∧ 120 ≤ R.locals) (hsum : (rest.map fun v => v.category).sum ≤ 8) (hdg : decode cc pc = .ok (.invokevirtual idx, 3)) (hf : cells ≤ R.cells ∧ slots ≤ R.slots)
    (k : W p l e R s m args below meth c H locs cells slots Q (F0 m (pc + 3) ls (.int z :: rest))) : W p l e R s m args below meth c H locs cells slots Q (F0 m pc ls (.int a1 :: .ref (h 0) :: rest)) :=
  r_calli (av := [.int a1]) S hl gE_0_ok trivial hK hH (met_M_decidedBy l D ct h H.size st a1 z hv) (lw_V hlk q1234 qs59 q70 q1235) rfl rfl ⟨rfl, by decide, by decide, by show (parseMethodDescriptor yX1_decidedBy.desc).map (fun d => d.parameters.length) = some 1; decide +kernel⟩ hR (m_recv hK hH) rfl hsum hdg hf k
end CR_M_decidedBy
/-! CapCouncilModel.sway (I)I -/
def M_sway_J81 (k31 : MS → Int32 → Int32 → Option (MS × Int32)) (a1 : Int32) (st : MS) (x2 : Int32) (x3 : Int32) (y0 : Int32) : Option (MS × Int32) :=
  if y0 = 0 then
    (bs_let (x3 + (1 : Int32)) fun w16 =>
    k31 st x2 w16)
  else
    ((M_decidedBy st x3).bind fun v17 =>
    if v17 = a1 then
      (bs_let (x3 + (1 : Int32)) fun w20 =>
      k31 st x3 w20)
    else
      (bs_let (x3 + (1 : Int32)) fun w19 =>
      k31 st x2 w19))
def M_sway_L31 (k109 : MS → Int32 → Option (MS × Int32)) (a1 : Int32) : Nat → MS → Int32 → Int32 → Option (MS × Int32)
  | 0, _, _, _ => none
  | n + 1, st, x2, x3 =>
    (bs_ld (ma st 0) 84 (0 : Int32)).bind fun v5 =>
    if ((1 : Int32) <<< (v5 &&& 31)) ≤ x3 then
      (k109 st x2)
    else
      (if x2 = (-9 : Int32) then
        (M_sway_J81 (M_sway_L31 k109 a1 n) a1 st x2 x3 (1 : Int32))
      else
        ((bs_ld (ma st 0) 84 (71 : Int32)).bind fun v8 =>
        (M_bits (x3 ^^^ v8)).bind fun v9 =>
        (bs_ld (ma st 0) 84 (71 : Int32)).bind fun v10 =>
        (M_bits (x2 ^^^ v10)).bind fun v11 =>
        if v11 ≤ v9 then
          (M_sway_J81 (M_sway_L31 k109 a1 n) a1 st x2 x3 (0 : Int32))
        else
          (M_sway_J81 (M_sway_L31 k109 a1 n) a1 st x2 x3 (1 : Int32))))
def M_sway_J124 (a1 : Int32) (st : MS) (x2 : Int32) (y0 : Int32) : Option (MS × Int32) :=
  if x2 = (-9 : Int32) then
    (some (st, (-9 : Int32)))
  else
    ((bs_ld (ma st 0) 84 (71 : Int32)).bind fun v22 =>
    (M_bits (x2 ^^^ v22)).bind fun v23 =>
    some (st, v23))
def M_sway_J109 (a1 : Int32) (st : MS) (x2 : Int32) : Option (MS × Int32) :=
  if x2 = (-9 : Int32) then
    (M_sway_J124 a1 st x2 (0 : Int32))
  else
    ((M_asks st x2).bind fun q14 =>
    M_sway_J124 a1 q14.1 x2 q14.2)
def M_sway (st : MS) (a1 : Int32) : Option (MS × Int32) :=
  (M_in (a1.toInt64) (0 : Int64) (45 : Int64)).bind fun v1 =>
  if v1 = 0 then
    (some (st, (-1 : Int32)))
  else
    ((bs_ld (ma st 0) 84 (0 : Int32)).bind fun v3 =>
    if v3 = 0 then
      (some (st, (-4 : Int32)))
    else
      (M_sway_L31 (M_sway_J109 a1) a1 bs_fu st (-9 : Int32) (0 : Int32)))
def rm_M_sway : Room := { frames := 5, cells := 0, slots := 0, locals := 120 }
set_option maxHeartbeats 4000000 in
set_option maxRecDepth 100000 in
theorem met_M_sway (l : Launch) (D : va_G) (ct : Nat → ClassId) (h : Nat → Nat) (sz : Nat) (st : MS) (a1 : Int32) (z : (MS × Int32)) (hd : M_sway st a1 = some z) : Met l yX1_sway (ws_ yX1_sway cX1_sway 5 (some .int)) rm_M_sway (GPre gE_0 D ct (mAs h) (WM ct h st) sz [.ref (h 0), .int a1]) (GQi D (mAs h) (mAs h) (WM ct h z.1) sz z.2) 0 0 (gA (mAs h) sz) := by
  refine g_met (cc := cX1_sway) (maxL := 5) (ret := (some .int)) (by decide) (Nat.le_of_ble_eq_true rfl) ?_
  intro p e U m args below meth c ls S hr hlk hK hH hE hsz hl
  have S : CallFix p m c cX1_sway 5 U args lw_all RX1 := S
  have hx := S.1
  have hb := S.2.1
  have hl : lv_has ls 5 [(0, .ref (h 0)), (1, .int a1)] := hl
  have h124 : ∀ (st : MS) (x2 : Int32) (y0 : Int32) (H : Heap) (locs : List Loc) (ls : Array Slot), GH D (gA (mAs h) sz) (mAs h) U.heap (WM ct h st) H locs → lv_has ls 5 [(0, .ref (h 0)), (1, .int a1), (2, .int x2)] → M_sway_J124 a1 st x2 y0 = some z → W p l e rm_M_sway U m args below meth c H locs 0 0 (MQ below (GQi D (mAs h) (mAs h) (WM ct h z.1) sz z.2) args U 0 0 (gA (mAs h) sz)) (F0 m 124 ls [.int y0]) := by
    intro st x2 y0 H locs ls hH hl hd
    unfold M_sway_J124 at hd
    refine lv_istore_n (pc := 124) (lv' := [(3, .int y0), (0, .ref (h 0)), (1, .int a1), (2, .int x2)]) hx hb dX1_sway_124 rfl hl (by decide) rfl (fun ls hl => ?_)
    refine lv_iload_n (pc := 125) hx hb dX1_sway_125 rfl (lv_at hl 3 rfl) ?_
    refine lv_bipush (v := (-9 : Int32)) (pc := 126) hx hb dX1_sway_126 (by decide) ?_
    refine lv_icmp_ne (pc := 128) (tgt := 136) hx hb dX1_sway_128 (by decide) (fun c21 => ?_) (fun c21 => ?_)
    · have hd := if_n c21 hd
      refine lv_iload_n (pc := 136) hx hb dX1_sway_136 rfl (lv_at hl 3 rfl) ?_
      refine lv_aload_n (pc := 137) hx hb dX1_sway_137 rfl (lv_at hl 1 rfl) ?_
      refine mg_now (pc := 138) S hK hH dX1_sway_138 ?_
      refine lv_bipush (v := (71 : Int32)) (pc := 141) hx hb dX1_sway_141 (by decide) ?_
      obtain ⟨v22, hv22, hd⟩ := bs_bd hd
      refine ml_now (pc := 143) S hK hH hv22 dX1_sway_143 ?_
      refine lv_ixor (pc := 144) hx hb dX1_sway_144 ?_
      obtain ⟨v23, hv23, hd⟩ := bs_bd hd
      refine call_M_bits (pc := 145) S hl q1158 hv23 ⟨Nat.le_of_ble_eq_true rfl, Nat.le_of_ble_eq_true rfl⟩ (Nat.le_of_ble_eq_true rfl) dX1_sway_145 ⟨Nat.zero_le _, Nat.zero_le _⟩ ?_
      exact g_iret (WM ct h) hd S hr hlk hH dX1_sway_148
    · have hd := if_t c21 hd
      refine lv_bipush (v := (-9 : Int32)) (pc := 131) hx hb dX1_sway_131 (by decide) ?_
      refine lv_goto (pc := 133) (tgt := 148) hx hb dX1_sway_133 (by decide) ?_
      exact g_iret (WM ct h) hd S hr hlk hH dX1_sway_148
  have h109 : ∀ (st : MS) (x2 : Int32) (H : Heap) (locs : List Loc) (ls : Array Slot), GH D (gA (mAs h) sz) (mAs h) U.heap (WM ct h st) H locs → lv_has ls 5 [(0, .ref (h 0)), (1, .int a1), (2, .int x2)] → M_sway_J109 a1 st x2 = some z → W p l e rm_M_sway U m args below meth c H locs 0 0 (MQ below (GQi D (mAs h) (mAs h) (WM ct h z.1) sz z.2) args U 0 0 (gA (mAs h) sz)) (F0 m 109 ls []) := by
    intro st x2 H locs ls hH hl hd
    unfold M_sway_J109 at hd
    refine lv_iload_n (pc := 109) hx hb dX1_sway_109 rfl (lv_at hl 2 rfl) ?_
    refine lv_bipush (v := (-9 : Int32)) (pc := 110) hx hb dX1_sway_110 (by decide) ?_
    refine lv_icmp_ne (pc := 112) (tgt := 119) hx hb dX1_sway_112 (by decide) (fun c13 => ?_) (fun c13 => ?_)
    · have hd := if_n c13 hd
      refine lv_aload_n (pc := 119) hx hb dX1_sway_119 rfl (lv_at hl 0 rfl) ?_
      refine lv_iload_n (pc := 120) hx hb dX1_sway_120 rfl (lv_at hl 2 rfl) ?_
      obtain ⟨q14, hq14, hd⟩ := bs_bd hd
      refine call_M_asks (pc := 121) S hl hK hH q989 hq14 ⟨Nat.le_of_ble_eq_true rfl, Nat.le_of_ble_eq_true rfl⟩ (Nat.le_of_ble_eq_true rfl) dX1_sway_121 ⟨Nat.zero_le _, Nat.zero_le _⟩ (fun H locs hH => ?_)
      exact h124 q14.1 x2 q14.2 _ _ _ hH (lv_sub hl [0, 1, 2] rfl) hd
    · have hd := if_t c13 hd
      refine lv_iconst (v := (0 : Int32)) (pc := 115) hx hb dX1_sway_115 (by decide) ?_
      refine lv_goto (pc := 116) (tgt := 124) hx hb dX1_sway_116 (by decide) ?_
      exact h124 st x2 (0 : Int32) _ _ _ hH (lv_sub hl [0, 1, 2] rfl) hd
  have h31 : ∀ (n31 : Nat) (st : MS) (x2 : Int32) (x3 : Int32) (H : Heap) (locs : List Loc) (ls : Array Slot), GH D (gA (mAs h) sz) (mAs h) U.heap (WM ct h st) H locs → lv_has ls 5 [(0, .ref (h 0)), (1, .int a1), (2, .int x2), (3, .int x3)] → M_sway_L31 (M_sway_J109 a1) a1 n31 st x2 x3 = some z → W p l e rm_M_sway U m args below meth c H locs 0 0 (MQ below (GQi D (mAs h) (mAs h) (WM ct h z.1) sz z.2) args U 0 0 (gA (mAs h) sz)) (F0 m 31 ls []) := by
    intro n31
    induction n31 with
    | zero =>
      intro st x2 x3 H locs ls hH hl hd
      rw [M_sway_L31] at hd
      cases hd
    | succ n31 ih31 =>
      have h81 : ∀ (st : MS) (x2 : Int32) (x3 : Int32) (y0 : Int32) (H : Heap) (locs : List Loc) (ls : Array Slot), GH D (gA (mAs h) sz) (mAs h) U.heap (WM ct h st) H locs → lv_has ls 5 [(0, .ref (h 0)), (1, .int a1), (2, .int x2), (3, .int x3)] → M_sway_J81 (M_sway_L31 (M_sway_J109 a1) a1 n31) a1 st x2 x3 y0 = some z → W p l e rm_M_sway U m args below meth c H locs 0 0 (MQ below (GQi D (mAs h) (mAs h) (WM ct h z.1) sz z.2) args U 0 0 (gA (mAs h) sz)) (F0 m 81 ls [.int y0]) := by
        intro st x2 x3 y0 H locs ls hH hl hd
        unfold M_sway_J81 at hd
        refine lv_istore (pc := 81) (lv' := [(4, .int y0), (0, .ref (h 0)), (1, .int a1), (2, .int x2), (3, .int x3)]) hx hb dX1_sway_81 hl (by decide) rfl (fun ls hl => ?_)
        refine lv_iload (pc := 83) hx hb dX1_sway_83 (lv_at hl 0 rfl) ?_
        refine lv_if_eq (pc := 85) (tgt := 101) hx hb dX1_sway_85 (by decide) (fun c15 => ?_) (fun c15 => ?_)
        · have hd := if_t c15 hd
          refine lv_iload_n (pc := 101) hx hb dX1_sway_101 rfl (lv_at hl 3 rfl) ?_
          refine lv_istore_n (pc := 102) (lv' := [(2, .int x2), (4, .int y0), (0, .ref (h 0)), (1, .int a1), (3, .int x3)]) hx hb dX1_sway_102 rfl hl (by decide) rfl (fun ls hl => ?_)
          obtain ⟨w16, ew16, hd⟩ := bs_let_spec hd
          refine lv_iinc (pc := 103) (v := w16) (lv' := [(3, .int w16), (2, .int x2), (4, .int y0), (0, .ref (h 0)), (1, .int a1)]) hx hb dX1_sway_103 hl (k := 4) rfl (by rw [ew16]; rfl) (by decide) rfl (fun ls hl => ?_)
          refine lv_goto (pc := 106) (tgt := 31) hx hb dX1_sway_106 (by decide) ?_
          exact ih31 st x2 w16 _ _ _ hH (lv_sub hl [3, 4, 1, 0] rfl) hd
        · have hd := if_n c15 hd
          refine lv_aload_n (pc := 88) hx hb dX1_sway_88 rfl (lv_at hl 1 rfl) ?_
          refine lv_iload_n (pc := 89) hx hb dX1_sway_89 rfl (lv_at hl 4 rfl) ?_
          obtain ⟨v17, hv17, hd⟩ := bs_bd hd
          refine call_M_decidedBy (pc := 90) S hl hK hH q1232 hv17 ⟨Nat.le_of_ble_eq_true rfl, Nat.le_of_ble_eq_true rfl⟩ (Nat.le_of_ble_eq_true rfl) dX1_sway_90 ⟨Nat.zero_le _, Nat.zero_le _⟩ ?_
          refine lv_iload_n (pc := 93) hx hb dX1_sway_93 rfl (lv_at hl 2 rfl) ?_
          refine lv_icmp_ne (pc := 94) (tgt := 101) hx hb dX1_sway_94 (by decide) (fun c18 => ?_) (fun c18 => ?_)
          · have hd := if_n c18 hd
            refine lv_iload_n (pc := 101) hx hb dX1_sway_101 rfl (lv_at hl 3 rfl) ?_
            refine lv_istore_n (pc := 102) (lv' := [(2, .int x2), (4, .int y0), (0, .ref (h 0)), (1, .int a1), (3, .int x3)]) hx hb dX1_sway_102 rfl hl (by decide) rfl (fun ls hl => ?_)
            obtain ⟨w19, ew19, hd⟩ := bs_let_spec hd
            refine lv_iinc (pc := 103) (v := w19) (lv' := [(3, .int w19), (2, .int x2), (4, .int y0), (0, .ref (h 0)), (1, .int a1)]) hx hb dX1_sway_103 hl (k := 4) rfl (by rw [ew19]; rfl) (by decide) rfl (fun ls hl => ?_)
            refine lv_goto (pc := 106) (tgt := 31) hx hb dX1_sway_106 (by decide) ?_
            exact ih31 st x2 w19 _ _ _ hH (lv_sub hl [3, 4, 1, 0] rfl) hd
          · have hd := if_t c18 hd
            refine lv_iload_n (pc := 97) hx hb dX1_sway_97 rfl (lv_at hl 4 rfl) ?_
            refine lv_goto (pc := 98) (tgt := 102) hx hb dX1_sway_98 (by decide) ?_
            refine lv_istore_n (pc := 102) (lv' := [(2, .int x3), (4, .int y0), (0, .ref (h 0)), (1, .int a1), (3, .int x3)]) hx hb dX1_sway_102 rfl hl (by decide) rfl (fun ls hl => ?_)
            obtain ⟨w20, ew20, hd⟩ := bs_let_spec hd
            refine lv_iinc (pc := 103) (v := w20) (lv' := [(3, .int w20), (2, .int x3), (4, .int y0), (0, .ref (h 0)), (1, .int a1)]) hx hb dX1_sway_103 hl (k := 4) rfl (by rw [ew20]; rfl) (by decide) rfl (fun ls hl => ?_)
            refine lv_goto (pc := 106) (tgt := 31) hx hb dX1_sway_106 (by decide) ?_
            exact ih31 st x3 w20 _ _ _ hH (lv_sub hl [3, 4, 1, 0] rfl) hd
      intro st x2 x3 H locs ls hH hl hd
      rw [M_sway_L31] at hd
      refine lv_iload_n (pc := 31) hx hb dX1_sway_31 rfl (lv_at hl 3 rfl) ?_
      refine lv_iconst (v := (1 : Int32)) (pc := 32) hx hb dX1_sway_32 (by decide) ?_
      refine lv_aload_n (pc := 33) hx hb dX1_sway_33 rfl (lv_at hl 0 rfl) ?_
      refine mg_now (pc := 34) S hK hH dX1_sway_34 ?_
      refine lv_iconst (v := (0 : Int32)) (pc := 37) hx hb dX1_sway_37 (by decide) ?_
      obtain ⟨v5, hv5, hd⟩ := bs_bd hd
      refine ml_now (pc := 38) S hK hH hv5 dX1_sway_38 ?_
      refine lv_ishl (pc := 39) hx hb dX1_sway_39 ?_
      refine lv_icmp_ge (pc := 40) (tgt := 109) hx hb dX1_sway_40 (by decide) (fun c6 => ?_) (fun c6 => ?_)
      · have hd := if_t c6 hd
        exact h109 st x2 _ _ _ hH (lv_sub hl [0, 1, 2] rfl) hd
      · have hd := if_n c6 hd
        refine lv_iload_n (pc := 43) hx hb dX1_sway_43 rfl (lv_at hl 2 rfl) ?_
        refine lv_bipush (v := (-9 : Int32)) (pc := 44) hx hb dX1_sway_44 (by decide) ?_
        refine lv_icmp_eq (pc := 46) (tgt := 76) hx hb dX1_sway_46 (by decide) (fun c7 => ?_) (fun c7 => ?_)
        · have hd := if_t c7 hd
          refine lv_iconst (v := (1 : Int32)) (pc := 76) hx hb dX1_sway_76 (by decide) ?_
          refine lv_goto (pc := 77) (tgt := 81) hx hb dX1_sway_77 (by decide) ?_
          exact h81 st x2 x3 (1 : Int32) _ _ _ hH (lv_sub hl [0, 1, 2, 3] rfl) hd
        · have hd := if_n c7 hd
          refine lv_iload_n (pc := 49) hx hb dX1_sway_49 rfl (lv_at hl 3 rfl) ?_
          refine lv_aload_n (pc := 50) hx hb dX1_sway_50 rfl (lv_at hl 0 rfl) ?_
          refine mg_now (pc := 51) S hK hH dX1_sway_51 ?_
          refine lv_bipush (v := (71 : Int32)) (pc := 54) hx hb dX1_sway_54 (by decide) ?_
          obtain ⟨v8, hv8, hd⟩ := bs_bd hd
          refine ml_now (pc := 56) S hK hH hv8 dX1_sway_56 ?_
          refine lv_ixor (pc := 57) hx hb dX1_sway_57 ?_
          obtain ⟨v9, hv9, hd⟩ := bs_bd hd
          refine call_M_bits (pc := 58) S hl q1158 hv9 ⟨Nat.le_of_ble_eq_true rfl, Nat.le_of_ble_eq_true rfl⟩ (Nat.le_of_ble_eq_true rfl) dX1_sway_58 ⟨Nat.zero_le _, Nat.zero_le _⟩ ?_
          refine lv_iload_n (pc := 61) hx hb dX1_sway_61 rfl (lv_at hl 2 rfl) ?_
          refine lv_aload_n (pc := 62) hx hb dX1_sway_62 rfl (lv_at hl 0 rfl) ?_
          refine mg_now (pc := 63) S hK hH dX1_sway_63 ?_
          refine lv_bipush (v := (71 : Int32)) (pc := 66) hx hb dX1_sway_66 (by decide) ?_
          obtain ⟨v10, hv10, hd⟩ := bs_bd hd
          refine ml_now (pc := 68) S hK hH hv10 dX1_sway_68 ?_
          refine lv_ixor (pc := 69) hx hb dX1_sway_69 ?_
          obtain ⟨v11, hv11, hd⟩ := bs_bd hd
          refine call_M_bits (pc := 70) S hl q1158 hv11 ⟨Nat.le_of_ble_eq_true rfl, Nat.le_of_ble_eq_true rfl⟩ (Nat.le_of_ble_eq_true rfl) dX1_sway_70 ⟨Nat.zero_le _, Nat.zero_le _⟩ ?_
          refine lv_icmp_ge (pc := 73) (tgt := 80) hx hb dX1_sway_73 (by decide) (fun c12 => ?_) (fun c12 => ?_)
          · have hd := if_t c12 hd
            refine lv_iconst (v := (0 : Int32)) (pc := 80) hx hb dX1_sway_80 (by decide) ?_
            exact h81 st x2 x3 (0 : Int32) _ _ _ hH (lv_sub hl [0, 1, 2, 3] rfl) hd
          · have hd := if_n c12 hd
            refine lv_iconst (v := (1 : Int32)) (pc := 76) hx hb dX1_sway_76 (by decide) ?_
            refine lv_goto (pc := 77) (tgt := 81) hx hb dX1_sway_77 (by decide) ?_
            exact h81 st x2 x3 (1 : Int32) _ _ _ hH (lv_sub hl [0, 1, 2, 3] rfl) hd
  unfold M_sway at hd
  refine lv_iload_n (pc := 0) hx hb dX1_sway_0 rfl (lv_at hl 1 rfl) ?_
  refine lv_i2l (pc := 1) hx hb dX1_sway_1 rfl ?_
  refine lv_lconst (v := (0 : Int64)) (pc := 2) hx hb dX1_sway_2 (by decide) ?_
  refine lv_ldc2 (pc := 3) (own := RX1) (v := (45 : Int64)) hx hb S.2.2.2.1 (S.2.2.2.2 _ q1231) dX1_sway_3 ?_
  obtain ⟨v1, hv1, hd⟩ := bs_bd hd
  refine call_M_in (pc := 6) S hl q974 hv1 ⟨Nat.le_of_ble_eq_true rfl, Nat.le_of_ble_eq_true rfl⟩ (Nat.le_of_ble_eq_true rfl) dX1_sway_6 ⟨Nat.zero_le _, Nat.zero_le _⟩ ?_
  refine lv_if_ne (pc := 9) (tgt := 14) hx hb dX1_sway_9 (by decide) (fun c2 => ?_) (fun c2 => ?_)
  · have hd := if_n c2 hd
    refine lv_aload_n (pc := 14) hx hb dX1_sway_14 rfl (lv_at hl 0 rfl) ?_
    refine mg_now (pc := 15) S hK hH dX1_sway_15 ?_
    refine lv_iconst (v := (0 : Int32)) (pc := 18) hx hb dX1_sway_18 (by decide) ?_
    obtain ⟨v3, hv3, hd⟩ := bs_bd hd
    refine ml_now (pc := 19) S hK hH hv3 dX1_sway_19 ?_
    refine lv_if_ne (pc := 20) (tgt := 26) hx hb dX1_sway_20 (by decide) (fun c4 => ?_) (fun c4 => ?_)
    · have hd := if_n c4 hd
      refine lv_bipush (v := (-9 : Int32)) (pc := 26) hx hb dX1_sway_26 (by decide) ?_
      refine lv_istore_n (pc := 28) (lv' := [(2, .int (-9 : Int32)), (0, .ref (h 0)), (1, .int a1)]) hx hb dX1_sway_28 rfl hl (by decide) rfl (fun ls hl => ?_)
      refine lv_iconst (v := (0 : Int32)) (pc := 29) hx hb dX1_sway_29 (by decide) ?_
      refine lv_istore_n (pc := 30) (lv' := [(3, .int (0 : Int32)), (2, .int (-9 : Int32)), (0, .ref (h 0)), (1, .int a1)]) hx hb dX1_sway_30 rfl hl (by decide) rfl (fun ls hl => ?_)
      exact h31 bs_fu st (-9 : Int32) (0 : Int32) _ _ _ hH (lv_sub hl [2, 3, 1, 0] rfl) hd
    · have hd := if_t c4 hd
      refine lv_bipush (v := (-4 : Int32)) (pc := 23) hx hb dX1_sway_23 (by decide) ?_
      exact g_iret (WM ct h) hd S hr hlk hH dX1_sway_25
  · have hd := if_t c2 hd
    refine lv_iconst (v := (-1 : Int32)) (pc := 12) hx hb dX1_sway_12 (by decide) ?_
    exact g_iret (WM ct h) hd S hr hlk hH dX1_sway_13
section CR_M_sway
variable {p : Program} {l : Launch} {e : Env} {R : Room} {s : State} {m : MethodId} {args : Array Value} {below : List Frame} {meth : Method} {c : Code} {H : Heap} {locs : List Loc} {cells slots : Nat} {Q : State → Prop}
variable {cc : ByteArray} {pc nL idx : Nat} {ls : Array Slot} {rest : List Value} {lv : List (Nat × Value)} {A : Nat → Prop} {H0 : Heap} {own : String}
theorem call_M_sway {D : va_G} {ct : Nat → ClassId} {h : Nat → Nat} {st : MS} {a1 : Int32} {z : (MS × Int32)} (S : CallFix p m c cc nL s args lw_all own) (hl : lv_has ls nL lv) (hK : va_K D clA (tysG ct) s) (hH : GH D A (mAs h) H0 (WM ct h st) H locs) (hlk : Cond.methodLink own idx yX1_sway ∈ lw_all) (hv : M_sway st a1 = some z) (hR : 6 ≤ R.frames ∧ 144 ≤ R.locals) (hsum : (rest.map fun v => v.category).sum ≤ 8) (hdg : decode cc pc = .ok (.invokevirtual idx, 3)) (hf : cells ≤ R.cells ∧ slots ≤ R.slots)
    (k : ∀ (H1 : Heap) (locs1 : List Loc), GH D A (mAs h) H0 (WM ct h z.1) H1 locs1 → W p l e R s m args below meth c H1 locs1 cells slots Q (F0 m (pc + 3) ls (.int z.2 :: rest))) : W p l e R s m args below meth c H locs cells slots Q (F0 m pc ls (.int a1 :: .ref (h 0) :: rest)) :=
  g_calli (av := [.int a1]) S hl gE_0_ok trivial hK hH (met_M_sway l D ct h H.size st a1 z hv) (lw_V hlk q1228 q1229 q70 q1230) rfl rfl ⟨rfl, by decide, by decide, by show (parseMethodDescriptor yX1_sway.desc).map (fun d => d.parameters.length) = some 1; decide +kernel⟩ hR (m_recv hK hH) (fun _ h => Or.inl h) rfl hsum hdg hf k
end CR_M_sway
/-! CapCouncilModel.refusesPairs (II)I -/
def M_refusesPairs_J87 (k51 : MS → Int32 → Option (MS × Int32)) (k93 : MS → Option (MS × Int32)) (a1 : Int32) (a2 : Int32) (st : MS) (x3 : Int32) (y0 : Int64) (y1 : Int64) (y2 : Int64) : Option (MS × Int32) :=
  (M_in y2 y1 y0).bind fun v15 =>
  if v15 = 0 then
    (k93 st)
  else
    (bs_let (x3 + (1 : Int32)) fun w17 =>
    k51 st w17)
def M_refusesPairs_L51 (k93 : MS → Option (MS × Int32)) (a1 : Int32) (a2 : Int32) : Nat → MS → Int32 → Option (MS × Int32)
  | 0, _, _ => none
  | n + 1, st, x3 =>
    (bs_ld (ma st 4) 6 a2).bind fun v11 =>
    if v11 ≤ x3 then
      (some (st, (0 : Int32)))
    else
      ((bs_ld (ma st 3) 240 (((40 : Int32) * a2) + x3)).bind fun v13 =>
      if (x3 - x3 / (2 : Int32) * (2 : Int32)) = 0 then
        (M_refusesPairs_J87 (M_refusesPairs_L51 k93 a1 a2 n) (k93) a1 a2 st x3 (99 : Int64) (0 : Int64) (v13.toInt64))
      else
        (M_refusesPairs_J87 (M_refusesPairs_L51 k93 a1 a2 n) (k93) a1 a2 st x3 (1 : Int64) (0 : Int64) (v13.toInt64)))
def M_refusesPairs_J93 (a1 : Int32) (a2 : Int32) (st : MS) : Option (MS × Int32) :=
  (M_finds st (3 : Int32)).bind fun q18 =>
  some (q18.1, q18.2)
def M_refusesPairs (st : MS) (a1 : Int32) (a2 : Int32) : Option (MS × Int32) :=
  (M_isRing st a1).bind fun v1 =>
  if v1 = 0 then
    (some (st, (-1 : Int32)))
  else
    ((M_isRow a2).bind fun v3 =>
    if v3 = 0 then
      (some (st, (-1 : Int32)))
    else
      ((bs_ld (ma st 4) 6 a2).bind fun v5 =>
      if 0 ≤ v5 then
        ((bs_ld (ma st 4) 6 a2).bind fun v7 =>
        if (v7 - v7 / (2 : Int32) * (2 : Int32)) = 0 then
          (M_refusesPairs_L51 (M_refusesPairs_J93 a1 a2) a1 a2 bs_fu st (0 : Int32))
        else
          ((M_finds st (5 : Int32)).bind fun q9 =>
          some (q9.1, q9.2)))
      else
        ((M_finds st (1 : Int32)).bind fun q10 =>
        some (q10.1, q10.2))))
def rm_M_refusesPairs : Room := { frames := 2, cells := 0, slots := 0, locals := 46 }
set_option maxHeartbeats 4000000 in
set_option maxRecDepth 100000 in
theorem met_M_refusesPairs (l : Launch) (D : va_G) (ct : Nat → ClassId) (h : Nat → Nat) (sz : Nat) (st : MS) (a1 : Int32) (a2 : Int32) (z : (MS × Int32)) (hd : M_refusesPairs st a1 a2 = some z) : Met l yX1_refusesPairs (ws_ yX1_refusesPairs cX1_refusesPairs 4 (some .int)) rm_M_refusesPairs (GPre gE_0 D ct (mAs h) (WM ct h st) sz [.ref (h 0), .int a1, .int a2]) (GQi D (mAs h) (mAs h) (WM ct h z.1) sz z.2) 0 0 (gA (mAs h) sz) := by
  refine g_met (cc := cX1_refusesPairs) (maxL := 4) (ret := (some .int)) (by decide) (Nat.le_of_ble_eq_true rfl) ?_
  intro p e U m args below meth c ls S hr hlk hK hH hE hsz hl
  have S : CallFix p m c cX1_refusesPairs 4 U args lw_all RX1 := S
  have hx := S.1
  have hb := S.2.1
  have hl : lv_has ls 4 [(0, .ref (h 0)), (1, .int a1), (2, .int a2)] := hl
  have h93 : ∀ (st : MS) (H : Heap) (locs : List Loc) (ls : Array Slot), GH D (gA (mAs h) sz) (mAs h) U.heap (WM ct h st) H locs → lv_has ls 4 [(0, .ref (h 0)), (1, .int a1), (2, .int a2)] → M_refusesPairs_J93 a1 a2 st = some z → W p l e rm_M_refusesPairs U m args below meth c H locs 0 0 (MQ below (GQi D (mAs h) (mAs h) (WM ct h z.1) sz z.2) args U 0 0 (gA (mAs h) sz)) (F0 m 93 ls []) := by
    intro st H locs ls hH hl hd
    unfold M_refusesPairs_J93 at hd
    refine lv_aload_n (pc := 93) hx hb dX1_refusesPairs_93 rfl (lv_at hl 0 rfl) ?_
    refine lv_iconst (v := (3 : Int32)) (pc := 94) hx hb dX1_refusesPairs_94 (by decide) ?_
    obtain ⟨q18, hq18, hd⟩ := bs_bd hd
    refine call_M_finds (pc := 95) S hl hK hH q977 hq18 ⟨Nat.le_of_ble_eq_true rfl, Nat.le_of_ble_eq_true rfl⟩ (Nat.le_of_ble_eq_true rfl) dX1_refusesPairs_95 ⟨Nat.zero_le _, Nat.zero_le _⟩ (fun H locs hH => ?_)
    exact g_iret (WM ct h) hd S hr hlk hH dX1_refusesPairs_98
  have h51 : ∀ (n51 : Nat) (st : MS) (x3 : Int32) (H : Heap) (locs : List Loc) (ls : Array Slot), GH D (gA (mAs h) sz) (mAs h) U.heap (WM ct h st) H locs → lv_has ls 4 [(0, .ref (h 0)), (1, .int a1), (2, .int a2), (3, .int x3)] → M_refusesPairs_L51 (M_refusesPairs_J93 a1 a2) a1 a2 n51 st x3 = some z → W p l e rm_M_refusesPairs U m args below meth c H locs 0 0 (MQ below (GQi D (mAs h) (mAs h) (WM ct h z.1) sz z.2) args U 0 0 (gA (mAs h) sz)) (F0 m 51 ls []) := by
    intro n51
    induction n51 with
    | zero =>
      intro st x3 H locs ls hH hl hd
      rw [M_refusesPairs_L51] at hd
      cases hd
    | succ n51 ih51 =>
      have h87 : ∀ (st : MS) (x3 : Int32) (y0 : Int64) (y1 : Int64) (y2 : Int64) (H : Heap) (locs : List Loc) (ls : Array Slot), GH D (gA (mAs h) sz) (mAs h) U.heap (WM ct h st) H locs → lv_has ls 4 [(0, .ref (h 0)), (1, .int a1), (2, .int a2), (3, .int x3)] → M_refusesPairs_J87 (M_refusesPairs_L51 (M_refusesPairs_J93 a1 a2) a1 a2 n51) (M_refusesPairs_J93 a1 a2) a1 a2 st x3 y0 y1 y2 = some z → W p l e rm_M_refusesPairs U m args below meth c H locs 0 0 (MQ below (GQi D (mAs h) (mAs h) (WM ct h z.1) sz z.2) args U 0 0 (gA (mAs h) sz)) (F0 m 87 ls [.long y0, .long y1, .long y2]) := by
        intro st x3 y0 y1 y2 H locs ls hH hl hd
        unfold M_refusesPairs_J87 at hd
        obtain ⟨v15, hv15, hd⟩ := bs_bd hd
        refine call_M_in (pc := 87) S hl q974 hv15 ⟨Nat.le_of_ble_eq_true rfl, Nat.le_of_ble_eq_true rfl⟩ (Nat.le_of_ble_eq_true rfl) dX1_refusesPairs_87 ⟨Nat.zero_le _, Nat.zero_le _⟩ ?_
        refine lv_if_ne (pc := 90) (tgt := 99) hx hb dX1_refusesPairs_90 (by decide) (fun c16 => ?_) (fun c16 => ?_)
        · have hd := if_n c16 hd
          obtain ⟨w17, ew17, hd⟩ := bs_let_spec hd
          refine lv_iinc (pc := 99) (v := w17) (lv' := [(3, .int w17), (0, .ref (h 0)), (1, .int a1), (2, .int a2)]) hx hb dX1_refusesPairs_99 hl (k := 3) rfl (by rw [ew17]; rfl) (by decide) rfl (fun ls hl => ?_)
          refine lv_goto (pc := 102) (tgt := 51) hx hb dX1_refusesPairs_102 (by decide) ?_
          exact ih51 st w17 _ _ _ hH (lv_sub hl [1, 2, 3, 0] rfl) hd
        · have hd := if_t c16 hd
          exact h93 st _ _ _ hH (lv_sub hl [0, 1, 2] rfl) hd
      intro st x3 H locs ls hH hl hd
      rw [M_refusesPairs_L51] at hd
      refine lv_iload_n (pc := 51) hx hb dX1_refusesPairs_51 rfl (lv_at hl 3 rfl) ?_
      refine lv_aload_n (pc := 52) hx hb dX1_refusesPairs_52 rfl (lv_at hl 0 rfl) ?_
      refine mg_rowLong (pc := 53) S hK hH dX1_refusesPairs_53 ?_
      refine lv_iload_n (pc := 56) hx hb dX1_refusesPairs_56 rfl (lv_at hl 2 rfl) ?_
      obtain ⟨v11, hv11, hd⟩ := bs_bd hd
      refine ml_rowLong (pc := 57) S hK hH hv11 dX1_refusesPairs_57 ?_
      refine lv_icmp_ge (pc := 58) (tgt := 105) hx hb dX1_refusesPairs_58 (by decide) (fun c12 => ?_) (fun c12 => ?_)
      · have hd := if_t c12 hd
        refine lv_iconst (v := (0 : Int32)) (pc := 105) hx hb dX1_refusesPairs_105 (by decide) ?_
        exact g_iret (WM ct h) hd S hr hlk hH dX1_refusesPairs_106
      · have hd := if_n c12 hd
        refine lv_aload_n (pc := 61) hx hb dX1_refusesPairs_61 rfl (lv_at hl 0 rfl) ?_
        refine mg_rows (pc := 62) S hK hH dX1_refusesPairs_62 ?_
        refine lv_bipush (v := (40 : Int32)) (pc := 65) hx hb dX1_refusesPairs_65 (by decide) ?_
        refine lv_iload_n (pc := 67) hx hb dX1_refusesPairs_67 rfl (lv_at hl 2 rfl) ?_
        refine lv_imul (pc := 68) hx hb dX1_refusesPairs_68 ?_
        refine lv_iload_n (pc := 69) hx hb dX1_refusesPairs_69 rfl (lv_at hl 3 rfl) ?_
        refine lv_iadd (pc := 70) hx hb dX1_refusesPairs_70 ?_
        obtain ⟨v13, hv13, hd⟩ := bs_bd hd
        refine ml_rows (pc := 71) S hK hH hv13 dX1_refusesPairs_71 ?_
        refine lv_i2l (pc := 72) hx hb dX1_refusesPairs_72 rfl ?_
        refine lv_lconst (v := (0 : Int64)) (pc := 73) hx hb dX1_refusesPairs_73 (by decide) ?_
        refine lv_iload_n (pc := 74) hx hb dX1_refusesPairs_74 rfl (lv_at hl 3 rfl) ?_
        refine lv_iconst (v := (2 : Int32)) (pc := 75) hx hb dX1_refusesPairs_75 (by decide) ?_
        refine lv_irem (pc := 76) hx hb dX1_refusesPairs_76 (by decide) ?_
        refine lv_if_ne (pc := 77) (tgt := 86) hx hb dX1_refusesPairs_77 (by decide) (fun c14 => ?_) (fun c14 => ?_)
        · have hd := if_n c14 hd
          refine lv_lconst (v := (1 : Int64)) (pc := 86) hx hb dX1_refusesPairs_86 (by decide) ?_
          exact h87 st x3 (1 : Int64) (0 : Int64) (v13.toInt64) _ _ _ hH (lv_sub hl [0, 1, 2, 3] rfl) hd
        · have hd := if_t c14 hd
          refine lv_ldc2 (pc := 80) (own := RX1) (v := (99 : Int64)) hx hb S.2.2.2.1 (S.2.2.2.2 _ q1138) dX1_refusesPairs_80 ?_
          refine lv_goto (pc := 83) (tgt := 87) hx hb dX1_refusesPairs_83 (by decide) ?_
          exact h87 st x3 (99 : Int64) (0 : Int64) (v13.toInt64) _ _ _ hH (lv_sub hl [0, 1, 2, 3] rfl) hd
  unfold M_refusesPairs at hd
  refine lv_aload_n (pc := 0) hx hb dX1_refusesPairs_0 rfl (lv_at hl 0 rfl) ?_
  refine lv_iload_n (pc := 1) hx hb dX1_refusesPairs_1 rfl (lv_at hl 1 rfl) ?_
  obtain ⟨v1, hv1, hd⟩ := bs_bd hd
  refine call_M_isRing (pc := 2) S hl hK hH q1066 hv1 ⟨Nat.le_of_ble_eq_true rfl, Nat.le_of_ble_eq_true rfl⟩ (Nat.le_of_ble_eq_true rfl) dX1_refusesPairs_2 ⟨Nat.zero_le _, Nat.zero_le _⟩ ?_
  refine lv_if_eq (pc := 5) (tgt := 15) hx hb dX1_refusesPairs_5 (by decide) (fun c2 => ?_) (fun c2 => ?_)
  · have hd := if_t c2 hd
    refine lv_iconst (v := (-1 : Int32)) (pc := 15) hx hb dX1_refusesPairs_15 (by decide) ?_
    exact g_iret (WM ct h) hd S hr hlk hH dX1_refusesPairs_16
  · have hd := if_n c2 hd
    refine lv_iload_n (pc := 8) hx hb dX1_refusesPairs_8 rfl (lv_at hl 2 rfl) ?_
    obtain ⟨v3, hv3, hd⟩ := bs_bd hd
    refine call_M_isRow (pc := 9) S hl q970 hv3 ⟨Nat.le_of_ble_eq_true rfl, Nat.le_of_ble_eq_true rfl⟩ (Nat.le_of_ble_eq_true rfl) dX1_refusesPairs_9 ⟨Nat.zero_le _, Nat.zero_le _⟩ ?_
    refine lv_if_ne (pc := 12) (tgt := 17) hx hb dX1_refusesPairs_12 (by decide) (fun c4 => ?_) (fun c4 => ?_)
    · have hd := if_n c4 hd
      refine lv_aload_n (pc := 17) hx hb dX1_refusesPairs_17 rfl (lv_at hl 0 rfl) ?_
      refine mg_rowLong (pc := 18) S hK hH dX1_refusesPairs_18 ?_
      refine lv_iload_n (pc := 21) hx hb dX1_refusesPairs_21 rfl (lv_at hl 2 rfl) ?_
      obtain ⟨v5, hv5, hd⟩ := bs_bd hd
      refine ml_rowLong (pc := 22) S hK hH hv5 dX1_refusesPairs_22 ?_
      refine lv_if_ge (pc := 23) (tgt := 32) hx hb dX1_refusesPairs_23 (by decide) (fun c6 => ?_) (fun c6 => ?_)
      · have hd := if_t c6 hd
        refine lv_aload_n (pc := 32) hx hb dX1_refusesPairs_32 rfl (lv_at hl 0 rfl) ?_
        refine mg_rowLong (pc := 33) S hK hH dX1_refusesPairs_33 ?_
        refine lv_iload_n (pc := 36) hx hb dX1_refusesPairs_36 rfl (lv_at hl 2 rfl) ?_
        obtain ⟨v7, hv7, hd⟩ := bs_bd hd
        refine ml_rowLong (pc := 37) S hK hH hv7 dX1_refusesPairs_37 ?_
        refine lv_iconst (v := (2 : Int32)) (pc := 38) hx hb dX1_refusesPairs_38 (by decide) ?_
        refine lv_irem (pc := 39) hx hb dX1_refusesPairs_39 (by decide) ?_
        refine lv_if_eq (pc := 40) (tgt := 49) hx hb dX1_refusesPairs_40 (by decide) (fun c8 => ?_) (fun c8 => ?_)
        · have hd := if_t c8 hd
          refine lv_iconst (v := (0 : Int32)) (pc := 49) hx hb dX1_refusesPairs_49 (by decide) ?_
          refine lv_istore_n (pc := 50) (lv' := [(3, .int (0 : Int32)), (0, .ref (h 0)), (1, .int a1), (2, .int a2)]) hx hb dX1_refusesPairs_50 rfl hl (by decide) rfl (fun ls hl => ?_)
          exact h51 bs_fu st (0 : Int32) _ _ _ hH (lv_sub hl [1, 2, 3, 0] rfl) hd
        · have hd := if_n c8 hd
          refine lv_aload_n (pc := 43) hx hb dX1_refusesPairs_43 rfl (lv_at hl 0 rfl) ?_
          refine lv_iconst (v := (5 : Int32)) (pc := 44) hx hb dX1_refusesPairs_44 (by decide) ?_
          obtain ⟨q9, hq9, hd⟩ := bs_bd hd
          refine call_M_finds (pc := 45) S hl hK hH q977 hq9 ⟨Nat.le_of_ble_eq_true rfl, Nat.le_of_ble_eq_true rfl⟩ (Nat.le_of_ble_eq_true rfl) dX1_refusesPairs_45 ⟨Nat.zero_le _, Nat.zero_le _⟩ (fun H locs hH => ?_)
          exact g_iret (WM ct h) hd S hr hlk hH dX1_refusesPairs_48
      · have hd := if_n c6 hd
        refine lv_aload_n (pc := 26) hx hb dX1_refusesPairs_26 rfl (lv_at hl 0 rfl) ?_
        refine lv_iconst (v := (1 : Int32)) (pc := 27) hx hb dX1_refusesPairs_27 (by decide) ?_
        obtain ⟨q10, hq10, hd⟩ := bs_bd hd
        refine call_M_finds (pc := 28) S hl hK hH q977 hq10 ⟨Nat.le_of_ble_eq_true rfl, Nat.le_of_ble_eq_true rfl⟩ (Nat.le_of_ble_eq_true rfl) dX1_refusesPairs_28 ⟨Nat.zero_le _, Nat.zero_le _⟩ (fun H locs hH => ?_)
        exact g_iret (WM ct h) hd S hr hlk hH dX1_refusesPairs_31
    · have hd := if_t c4 hd
      refine lv_iconst (v := (-1 : Int32)) (pc := 15) hx hb dX1_refusesPairs_15 (by decide) ?_
      exact g_iret (WM ct h) hd S hr hlk hH dX1_refusesPairs_16
section CR_M_refusesPairs
variable {p : Program} {l : Launch} {e : Env} {R : Room} {s : State} {m : MethodId} {args : Array Value} {below : List Frame} {meth : Method} {c : Code} {H : Heap} {locs : List Loc} {cells slots : Nat} {Q : State → Prop}
variable {cc : ByteArray} {pc nL idx : Nat} {ls : Array Slot} {rest : List Value} {lv : List (Nat × Value)} {A : Nat → Prop} {H0 : Heap} {own : String}
theorem call_M_refusesPairs {D : va_G} {ct : Nat → ClassId} {h : Nat → Nat} {st : MS} {a1 : Int32} {a2 : Int32} {z : (MS × Int32)} (S : CallFix p m c cc nL s args lw_all own) (hl : lv_has ls nL lv) (hK : va_K D clA (tysG ct) s) (hH : GH D A (mAs h) H0 (WM ct h st) H locs) (hlk : Cond.methodLink own idx yX1_refusesPairs ∈ lw_all) (hv : M_refusesPairs st a1 a2 = some z) (hR : 3 ≤ R.frames ∧ 69 ≤ R.locals) (hsum : (rest.map fun v => v.category).sum ≤ 8) (hdg : decode cc pc = .ok (.invokevirtual idx, 3)) (hf : cells ≤ R.cells ∧ slots ≤ R.slots)
    (k : ∀ (H1 : Heap) (locs1 : List Loc), GH D A (mAs h) H0 (WM ct h z.1) H1 locs1 → W p l e R s m args below meth c H1 locs1 cells slots Q (F0 m (pc + 3) ls (.int z.2 :: rest))) : W p l e R s m args below meth c H locs cells slots Q (F0 m pc ls (.int a2 :: .int a1 :: .ref (h 0) :: rest)) :=
  g_calli (av := [.int a1, .int a2]) S hl gE_0_ok trivial hK hH (met_M_refusesPairs l D ct h H.size st a1 a2 z hv) (lw_V hlk q1242 qs60 q70 q1243) rfl rfl ⟨rfl, by decide, by decide, by show (parseMethodDescriptor yX1_refusesPairs.desc).map (fun d => d.parameters.length) = some 2; decide +kernel⟩ hR (m_recv hK hH) (fun _ h => Or.inl h) rfl hsum hdg hf k
end CR_M_refusesPairs
/-! CapCouncilModel.fits (IIII)Z -/
def M_fits_J75 (k6 : Int32 → Int32 → Option Int32) (st : MS) (a1 : Int32) (a2 : Int32) (a3 : Int32) (a4 : Int32) (x6 : Int32) (y0 : Int32) (y1 : Int32) : Option Int32 :=
  if y1 = y0 then
    (bs_let (x6 + (2 : Int32)) fun w13 =>
    k6 (1 : Int32) w13)
  else
    (bs_let (x6 + (2 : Int32)) fun w12 =>
    k6 (0 : Int32) w12)
def M_fits_L6 (st : MS) (a1 : Int32) (a2 : Int32) (a3 : Int32) (a4 : Int32) : Nat → Int32 → Int32 → Option Int32
  | 0, _, _ => none
  | n + 1, x5, x6 =>
    (bs_ld (ma st 4) 6 a4).bind fun v1 =>
    if v1 ≤ (x6 + (1 : Int32)) then
      (bs_gb x5 (some x5))
    else
      (if x5 = 0 then
        (bs_let (x6 + (2 : Int32)) fun w5 =>
        M_fits_L6 st a1 a2 a3 a4 n (0 : Int32) w5)
      else
        ((bs_ld (ma st 0) 84 (70 : Int32)).bind fun v6 =>
        (bs_ld (ma st 3) 240 (((40 : Int32) * a4) + x6)).bind fun v7 =>
        (M_isWithin a1 a2 a3 v6 v7).bind fun v8 =>
        (bs_ld (ma st 3) 240 ((((40 : Int32) * a4) + x6) + (1 : Int32))).bind fun v9 =>
        if v9 = (1 : Int32) then
          (M_fits_J75 (M_fits_L6 st a1 a2 a3 a4 n) st a1 a2 a3 a4 x6 (1 : Int32) v8)
        else
          (M_fits_J75 (M_fits_L6 st a1 a2 a3 a4 n) st a1 a2 a3 a4 x6 (0 : Int32) v8)))
def M_fits (st : MS) (a1 : Int32) (a2 : Int32) (a3 : Int32) (a4 : Int32) : Option Int32 :=
  M_fits_L6 st a1 a2 a3 a4 bs_fu (1 : Int32) (0 : Int32)
def rm_M_fits : Room := { frames := 2, cells := 0, slots := 0, locals := 50 }
set_option maxHeartbeats 4000000 in
set_option maxRecDepth 100000 in
theorem met_M_fits (l : Launch) (D : va_G) (ct : Nat → ClassId) (h : Nat → Nat) (sz : Nat) (st : MS) (a1 : Int32) (a2 : Int32) (a3 : Int32) (a4 : Int32) (z : Int32) (hd : M_fits st a1 a2 a3 a4 = some z) : Met l yX1_fits (ws_ yX1_fits cX1_fits 7 (some .boolean)) rm_M_fits (GPre gE_0 D ct (mAs h) (WM ct h st) sz [.ref (h 0), .int a1, .int a2, .int a3, .int a4]) (vp_Si (fun r => r = z)) 0 0 (fun _ => False) := by
  refine g_met (cc := cX1_fits) (maxL := 7) (ret := (some .boolean)) (by decide) (Nat.le_of_ble_eq_true rfl) ?_
  intro p e U m args below meth c ls S hr hlk hK hH hE hsz hl
  have S : CallFix p m c cX1_fits 7 U args lw_all RX1 := S
  have hx := S.1
  have hb := S.2.1
  have hl : lv_has ls 7 [(0, .ref (h 0)), (1, .int a1), (2, .int a2), (3, .int a3), (4, .int a4)] := hl
  have h6 : ∀ (n6 : Nat) (x5 : Int32) (x6 : Int32) (ls : Array Slot), lv_has ls 7 [(0, .ref (h 0)), (1, .int a1), (2, .int a2), (3, .int a3), (4, .int a4), (5, .int x5), (6, .int x6)] → M_fits_L6 st a1 a2 a3 a4 n6 x5 x6 = some z → W p l e rm_M_fits U m args below meth c U.heap [] 0 0 (MQ below (vp_Si (fun r => r = z)) args U 0 0 (fun _ => False)) (F0 m 6 ls []) := by
    intro n6
    induction n6 with
    | zero =>
      intro x5 x6 ls hl hd
      rw [M_fits_L6] at hd
      cases hd
    | succ n6 ih6 =>
      have h75 : ∀ (x6 : Int32) (y0 : Int32) (y1 : Int32) (ls : Array Slot), lv_has ls 7 [(0, .ref (h 0)), (1, .int a1), (2, .int a2), (3, .int a3), (4, .int a4), (6, .int x6)] → M_fits_J75 (M_fits_L6 st a1 a2 a3 a4 n6) st a1 a2 a3 a4 x6 y0 y1 = some z → W p l e rm_M_fits U m args below meth c U.heap [] 0 0 (MQ below (vp_Si (fun r => r = z)) args U 0 0 (fun _ => False)) (F0 m 75 ls [.int y0, .int y1]) := by
        intro x6 y0 y1 ls hl hd
        unfold M_fits_J75 at hd
        refine lv_icmp_ne (pc := 75) (tgt := 82) hx hb dX1_fits_75 (by decide) (fun c11 => ?_) (fun c11 => ?_)
        · have hd := if_n c11 hd
          refine lv_iconst (v := (0 : Int32)) (pc := 82) hx hb dX1_fits_82 (by decide) ?_
          refine lv_istore (pc := 83) (lv' := [(5, .int (0 : Int32)), (0, .ref (h 0)), (1, .int a1), (2, .int a2), (3, .int a3), (4, .int a4), (6, .int x6)]) hx hb dX1_fits_83 hl (by decide) rfl (fun ls hl => ?_)
          obtain ⟨w12, ew12, hd⟩ := bs_let_spec hd
          refine lv_iinc (pc := 85) (v := w12) (lv' := [(6, .int w12), (5, .int (0 : Int32)), (0, .ref (h 0)), (1, .int a1), (2, .int a2), (3, .int a3), (4, .int a4)]) hx hb dX1_fits_85 hl (k := 6) rfl (by rw [ew12]; rfl) (by decide) rfl (fun ls hl => ?_)
          refine lv_goto (pc := 88) (tgt := 6) hx hb dX1_fits_88 (by decide) ?_
          exact ih6 (0 : Int32) w12 _ (lv_sub hl [2, 3, 4, 5, 6, 1, 0] rfl) hd
        · have hd := if_t c11 hd
          refine lv_iconst (v := (1 : Int32)) (pc := 78) hx hb dX1_fits_78 (by decide) ?_
          refine lv_goto (pc := 79) (tgt := 83) hx hb dX1_fits_79 (by decide) ?_
          refine lv_istore (pc := 83) (lv' := [(5, .int (1 : Int32)), (0, .ref (h 0)), (1, .int a1), (2, .int a2), (3, .int a3), (4, .int a4), (6, .int x6)]) hx hb dX1_fits_83 hl (by decide) rfl (fun ls hl => ?_)
          obtain ⟨w13, ew13, hd⟩ := bs_let_spec hd
          refine lv_iinc (pc := 85) (v := w13) (lv' := [(6, .int w13), (5, .int (1 : Int32)), (0, .ref (h 0)), (1, .int a1), (2, .int a2), (3, .int a3), (4, .int a4)]) hx hb dX1_fits_85 hl (k := 6) rfl (by rw [ew13]; rfl) (by decide) rfl (fun ls hl => ?_)
          refine lv_goto (pc := 88) (tgt := 6) hx hb dX1_fits_88 (by decide) ?_
          exact ih6 (1 : Int32) w13 _ (lv_sub hl [2, 3, 4, 5, 6, 1, 0] rfl) hd
      intro x5 x6 ls hl hd
      rw [M_fits_L6] at hd
      refine lv_iload (pc := 6) hx hb dX1_fits_6 (lv_at hl 6 rfl) ?_
      refine lv_iconst (v := (1 : Int32)) (pc := 8) hx hb dX1_fits_8 (by decide) ?_
      refine lv_iadd (pc := 9) hx hb dX1_fits_9 ?_
      refine lv_aload_n (pc := 10) hx hb dX1_fits_10 rfl (lv_at hl 0 rfl) ?_
      refine mg_rowLong (pc := 11) S hK hH dX1_fits_11 ?_
      refine lv_iload (pc := 14) hx hb dX1_fits_14 (lv_at hl 4 rfl) ?_
      obtain ⟨v1, hv1, hd⟩ := bs_bd hd
      refine ml_rowLong (pc := 16) S hK hH hv1 dX1_fits_16 ?_
      refine lv_icmp_ge (pc := 17) (tgt := 91) hx hb dX1_fits_17 (by decide) (fun c2 => ?_) (fun c2 => ?_)
      · have hd := if_t c2 hd
        refine lv_iload (pc := 91) hx hb dX1_fits_91 (lv_at hl 5 rfl) ?_
        obtain ⟨hn3, hd⟩ := bs_gb_spec hd
        exact r_zret hn3 hd S hr hlk dX1_fits_93
      · have hd := if_n c2 hd
        refine lv_iload (pc := 20) hx hb dX1_fits_20 (lv_at hl 5 rfl) ?_
        refine lv_if_eq (pc := 22) (tgt := 82) hx hb dX1_fits_22 (by decide) (fun c4 => ?_) (fun c4 => ?_)
        · have hd := if_t c4 hd
          refine lv_iconst (v := (0 : Int32)) (pc := 82) hx hb dX1_fits_82 (by decide) ?_
          refine lv_istore (pc := 83) (lv' := [(5, .int (0 : Int32)), (0, .ref (h 0)), (1, .int a1), (2, .int a2), (3, .int a3), (4, .int a4), (6, .int x6)]) hx hb dX1_fits_83 hl (by decide) rfl (fun ls hl => ?_)
          obtain ⟨w5, ew5, hd⟩ := bs_let_spec hd
          refine lv_iinc (pc := 85) (v := w5) (lv' := [(6, .int w5), (5, .int (0 : Int32)), (0, .ref (h 0)), (1, .int a1), (2, .int a2), (3, .int a3), (4, .int a4)]) hx hb dX1_fits_85 hl (k := 6) rfl (by rw [ew5]; rfl) (by decide) rfl (fun ls hl => ?_)
          refine lv_goto (pc := 88) (tgt := 6) hx hb dX1_fits_88 (by decide) ?_
          exact ih6 (0 : Int32) w5 _ (lv_sub hl [2, 3, 4, 5, 6, 1, 0] rfl) hd
        · have hd := if_n c4 hd
          refine lv_iload_n (pc := 25) hx hb dX1_fits_25 rfl (lv_at hl 1 rfl) ?_
          refine lv_iload_n (pc := 26) hx hb dX1_fits_26 rfl (lv_at hl 2 rfl) ?_
          refine lv_iload_n (pc := 27) hx hb dX1_fits_27 rfl (lv_at hl 3 rfl) ?_
          refine lv_aload_n (pc := 28) hx hb dX1_fits_28 rfl (lv_at hl 0 rfl) ?_
          refine mg_now (pc := 29) S hK hH dX1_fits_29 ?_
          refine lv_bipush (v := (70 : Int32)) (pc := 32) hx hb dX1_fits_32 (by decide) ?_
          obtain ⟨v6, hv6, hd⟩ := bs_bd hd
          refine ml_now (pc := 34) S hK hH hv6 dX1_fits_34 ?_
          refine lv_aload_n (pc := 35) hx hb dX1_fits_35 rfl (lv_at hl 0 rfl) ?_
          refine mg_rows (pc := 36) S hK hH dX1_fits_36 ?_
          refine lv_bipush (v := (40 : Int32)) (pc := 39) hx hb dX1_fits_39 (by decide) ?_
          refine lv_iload (pc := 41) hx hb dX1_fits_41 (lv_at hl 4 rfl) ?_
          refine lv_imul (pc := 43) hx hb dX1_fits_43 ?_
          refine lv_iload (pc := 44) hx hb dX1_fits_44 (lv_at hl 6 rfl) ?_
          refine lv_iadd (pc := 46) hx hb dX1_fits_46 ?_
          obtain ⟨v7, hv7, hd⟩ := bs_bd hd
          refine ml_rows (pc := 47) S hK hH hv7 dX1_fits_47 ?_
          obtain ⟨v8, hv8, hd⟩ := bs_bd hd
          refine call_M_isWithin (pc := 48) S hl q1089 hv8 ⟨Nat.le_of_ble_eq_true rfl, Nat.le_of_ble_eq_true rfl⟩ (Nat.le_of_ble_eq_true rfl) dX1_fits_48 ⟨Nat.zero_le _, Nat.zero_le _⟩ ?_
          refine lv_aload_n (pc := 51) hx hb dX1_fits_51 rfl (lv_at hl 0 rfl) ?_
          refine mg_rows (pc := 52) S hK hH dX1_fits_52 ?_
          refine lv_bipush (v := (40 : Int32)) (pc := 55) hx hb dX1_fits_55 (by decide) ?_
          refine lv_iload (pc := 57) hx hb dX1_fits_57 (lv_at hl 4 rfl) ?_
          refine lv_imul (pc := 59) hx hb dX1_fits_59 ?_
          refine lv_iload (pc := 60) hx hb dX1_fits_60 (lv_at hl 6 rfl) ?_
          refine lv_iadd (pc := 62) hx hb dX1_fits_62 ?_
          refine lv_iconst (v := (1 : Int32)) (pc := 63) hx hb dX1_fits_63 (by decide) ?_
          refine lv_iadd (pc := 64) hx hb dX1_fits_64 ?_
          obtain ⟨v9, hv9, hd⟩ := bs_bd hd
          refine ml_rows (pc := 65) S hK hH hv9 dX1_fits_65 ?_
          refine lv_iconst (v := (1 : Int32)) (pc := 66) hx hb dX1_fits_66 (by decide) ?_
          refine lv_icmp_ne (pc := 67) (tgt := 74) hx hb dX1_fits_67 (by decide) (fun c10 => ?_) (fun c10 => ?_)
          · have hd := if_n c10 hd
            refine lv_iconst (v := (0 : Int32)) (pc := 74) hx hb dX1_fits_74 (by decide) ?_
            exact h75 x6 (0 : Int32) v8 _ (lv_sub hl [0, 1, 2, 3, 4, 6] rfl) hd
          · have hd := if_t c10 hd
            refine lv_iconst (v := (1 : Int32)) (pc := 70) hx hb dX1_fits_70 (by decide) ?_
            refine lv_goto (pc := 71) (tgt := 75) hx hb dX1_fits_71 (by decide) ?_
            exact h75 x6 (1 : Int32) v8 _ (lv_sub hl [0, 1, 2, 3, 4, 6] rfl) hd
  unfold M_fits at hd
  refine lv_iconst (v := (1 : Int32)) (pc := 0) hx hb dX1_fits_0 (by decide) ?_
  refine lv_istore (pc := 1) (lv' := [(5, .int (1 : Int32)), (0, .ref (h 0)), (1, .int a1), (2, .int a2), (3, .int a3), (4, .int a4)]) hx hb dX1_fits_1 hl (by decide) rfl (fun ls hl => ?_)
  refine lv_iconst (v := (0 : Int32)) (pc := 3) hx hb dX1_fits_3 (by decide) ?_
  refine lv_istore (pc := 4) (lv' := [(6, .int (0 : Int32)), (5, .int (1 : Int32)), (0, .ref (h 0)), (1, .int a1), (2, .int a2), (3, .int a3), (4, .int a4)]) hx hb dX1_fits_4 hl (by decide) rfl (fun ls hl => ?_)
  exact h6 bs_fu (1 : Int32) (0 : Int32) _ (lv_sub hl [2, 3, 4, 5, 6, 1, 0] rfl) hd
section CR_M_fits
variable {p : Program} {l : Launch} {e : Env} {R : Room} {s : State} {m : MethodId} {args : Array Value} {below : List Frame} {meth : Method} {c : Code} {H : Heap} {locs : List Loc} {cells slots : Nat} {Q : State → Prop}
variable {cc : ByteArray} {pc nL idx : Nat} {ls : Array Slot} {rest : List Value} {lv : List (Nat × Value)} {A : Nat → Prop} {H0 : Heap} {own : String}
theorem call_M_fits {D : va_G} {ct : Nat → ClassId} {h : Nat → Nat} {st : MS} {a1 : Int32} {a2 : Int32} {a3 : Int32} {a4 : Int32} {z : Int32} (S : CallFix p m c cc nL s args lw_all own) (hl : lv_has ls nL lv) (hK : va_K D clA (tysG ct) s) (hH : GH D A (mAs h) H0 (WM ct h st) H locs) (hlk : Cond.methodLink own idx yX1_fits ∈ lw_all) (hv : M_fits st a1 a2 a3 a4 = some z) (hR : 3 ≤ R.frames ∧ 76 ≤ R.locals) (hsum : (rest.map fun v => v.category).sum ≤ 8) (hdg : decode cc pc = .ok (.invokevirtual idx, 3)) (hf : cells ≤ R.cells ∧ slots ≤ R.slots)
    (k : W p l e R s m args below meth c H locs cells slots Q (F0 m (pc + 3) ls (.int z :: rest))) : W p l e R s m args below meth c H locs cells slots Q (F0 m pc ls (.int a4 :: .int a3 :: .int a2 :: .int a1 :: .ref (h 0) :: rest)) :=
  r_calli (av := [.int a1, .int a2, .int a3, .int a4]) S hl gE_0_ok trivial hK hH (met_M_fits l D ct h H.size st a1 a2 a3 a4 z hv) (lw_V hlk q1246 qs61 q70 q1247) rfl rfl ⟨rfl, by decide, by decide, by show (parseMethodDescriptor yX1_fits.desc).map (fun d => d.parameters.length) = some 4; decide +kernel⟩ hR (m_recv hK hH) rfl hsum hdg hf k
end CR_M_fits
/-! CapCouncilModel.middles (II)I -/
def M_middles_L23 (k80 : MS → Int32 → Int32 → Option (MS × Int32)) (a1 : Int32) (a2 : Int32) : Nat → MS → Int32 → Int32 → Int32 → Option (MS × Int32)
  | 0, _, _, _, _ => none
  | n + 1, st, x4, x5, x6 =>
    if (100 : Int32) ≤ x6 then
      (k80 st x4 x5)
    else
      ((bs_ld (ma st 0) 84 ((2 : Int32) + a1)).bind fun v4 =>
      (bs_ld (ma st 0) 84 ((12 : Int32) + a1)).bind fun v5 =>
      (M_fits st v4 x6 v5 a2).bind fun v6 =>
      if v6 = 0 then
        (bs_let (x6 + (1 : Int32)) fun w8 =>
        M_middles_L23 k80 a1 a2 n st x4 x5 w8)
      else
        (if x4 = 0 then
          (bs_let (x4 + (1 : Int32)) fun w12 =>
          bs_let (x6 + (1 : Int32)) fun w13 =>
          M_middles_L23 k80 a1 a2 n st w12 x6 w13)
        else
          (bs_let (x4 + (1 : Int32)) fun w10 =>
          bs_let (x6 + (1 : Int32)) fun w11 =>
          M_middles_L23 k80 a1 a2 n st w10 x5 w11)))
def M_middles_J95 (a1 : Int32) (a2 : Int32) (st : MS) (x4 : Int32) (y0 : Int32) : Option (MS × Int32) :=
  if x4 = 0 then
    (some (st, (-9 : Int32)))
  else
    (some (st, x4))
def M_middles_J80 (a1 : Int32) (a2 : Int32) (st : MS) (x4 : Int32) (x5 : Int32) : Option (MS × Int32) :=
  if x4 = 0 then
    (M_middles_J95 a1 a2 st x4 (0 : Int32))
  else
    ((M_asks st x5).bind fun q15 =>
    M_middles_J95 a1 a2 q15.1 x4 q15.2)
def M_middles (st : MS) (a1 : Int32) (a2 : Int32) : Option (MS × Int32) :=
  (M_refusesPairs st a1 a2).bind fun q1 =>
  if q1.2 = 0 then
    (M_middles_L23 (M_middles_J80 a1 a2) a1 a2 bs_fu q1.1 (0 : Int32) (-9 : Int32) (0 : Int32))
  else
    (some (q1.1, q1.2))
def rm_M_middles : Room := { frames := 3, cells := 0, slots := 0, locals := 76 }
set_option maxHeartbeats 4000000 in
set_option maxRecDepth 100000 in
theorem met_M_middles (l : Launch) (D : va_G) (ct : Nat → ClassId) (h : Nat → Nat) (sz : Nat) (st : MS) (a1 : Int32) (a2 : Int32) (z : (MS × Int32)) (hd : M_middles st a1 a2 = some z) : Met l yX1_middles (ws_ yX1_middles cX1_middles 7 (some .int)) rm_M_middles (GPre gE_0 D ct (mAs h) (WM ct h st) sz [.ref (h 0), .int a1, .int a2]) (GQi D (mAs h) (mAs h) (WM ct h z.1) sz z.2) 0 0 (gA (mAs h) sz) := by
  refine g_met (cc := cX1_middles) (maxL := 7) (ret := (some .int)) (by decide) (Nat.le_of_ble_eq_true rfl) ?_
  intro p e U m args below meth c ls S hr hlk hK hH hE hsz hl
  have S : CallFix p m c cX1_middles 7 U args lw_all RX1 := S
  have hx := S.1
  have hb := S.2.1
  have hl : lv_has ls 7 [(0, .ref (h 0)), (1, .int a1), (2, .int a2)] := hl
  have h95 : ∀ (st : MS) (x4 : Int32) (y0 : Int32) (H : Heap) (locs : List Loc) (ls : Array Slot), GH D (gA (mAs h) sz) (mAs h) U.heap (WM ct h st) H locs → lv_has ls 7 [(0, .ref (h 0)), (1, .int a1), (2, .int a2), (4, .int x4)] → M_middles_J95 a1 a2 st x4 y0 = some z → W p l e rm_M_middles U m args below meth c H locs 0 0 (MQ below (GQi D (mAs h) (mAs h) (WM ct h z.1) sz z.2) args U 0 0 (gA (mAs h) sz)) (F0 m 95 ls [.int y0]) := by
    intro st x4 y0 H locs ls hH hl hd
    unfold M_middles_J95 at hd
    refine lv_istore (pc := 95) (lv' := [(6, .int y0), (0, .ref (h 0)), (1, .int a1), (2, .int a2), (4, .int x4)]) hx hb dX1_middles_95 hl (by decide) rfl (fun ls hl => ?_)
    refine lv_iload (pc := 97) hx hb dX1_middles_97 (lv_at hl 4 rfl) ?_
    refine lv_if_ne (pc := 99) (tgt := 107) hx hb dX1_middles_99 (by decide) (fun c16 => ?_) (fun c16 => ?_)
    · have hd := if_n c16 hd
      refine lv_iload (pc := 107) hx hb dX1_middles_107 (lv_at hl 4 rfl) ?_
      exact g_iret (WM ct h) hd S hr hlk hH dX1_middles_109
    · have hd := if_t c16 hd
      refine lv_bipush (v := (-9 : Int32)) (pc := 102) hx hb dX1_middles_102 (by decide) ?_
      refine lv_goto (pc := 104) (tgt := 109) hx hb dX1_middles_104 (by decide) ?_
      exact g_iret (WM ct h) hd S hr hlk hH dX1_middles_109
  have h80 : ∀ (st : MS) (x4 : Int32) (x5 : Int32) (H : Heap) (locs : List Loc) (ls : Array Slot), GH D (gA (mAs h) sz) (mAs h) U.heap (WM ct h st) H locs → lv_has ls 7 [(0, .ref (h 0)), (1, .int a1), (2, .int a2), (4, .int x4), (5, .int x5)] → M_middles_J80 a1 a2 st x4 x5 = some z → W p l e rm_M_middles U m args below meth c H locs 0 0 (MQ below (GQi D (mAs h) (mAs h) (WM ct h z.1) sz z.2) args U 0 0 (gA (mAs h) sz)) (F0 m 80 ls []) := by
    intro st x4 x5 H locs ls hH hl hd
    unfold M_middles_J80 at hd
    refine lv_iload (pc := 80) hx hb dX1_middles_80 (lv_at hl 3 rfl) ?_
    refine lv_if_ne (pc := 82) (tgt := 89) hx hb dX1_middles_82 (by decide) (fun c14 => ?_) (fun c14 => ?_)
    · have hd := if_n c14 hd
      refine lv_aload_n (pc := 89) hx hb dX1_middles_89 rfl (lv_at hl 0 rfl) ?_
      refine lv_iload (pc := 90) hx hb dX1_middles_90 (lv_at hl 4 rfl) ?_
      obtain ⟨q15, hq15, hd⟩ := bs_bd hd
      refine call_M_asks (pc := 92) S hl hK hH q989 hq15 ⟨Nat.le_of_ble_eq_true rfl, Nat.le_of_ble_eq_true rfl⟩ (Nat.le_of_ble_eq_true rfl) dX1_middles_92 ⟨Nat.zero_le _, Nat.zero_le _⟩ (fun H locs hH => ?_)
      exact h95 q15.1 x4 q15.2 _ _ _ hH (lv_sub hl [0, 1, 2, 3] rfl) hd
    · have hd := if_t c14 hd
      refine lv_iconst (v := (0 : Int32)) (pc := 85) hx hb dX1_middles_85 (by decide) ?_
      refine lv_goto (pc := 86) (tgt := 95) hx hb dX1_middles_86 (by decide) ?_
      exact h95 st x4 (0 : Int32) _ _ _ hH (lv_sub hl [0, 1, 2, 3] rfl) hd
  have h23 : ∀ (n23 : Nat) (st : MS) (x4 : Int32) (x5 : Int32) (x6 : Int32) (H : Heap) (locs : List Loc) (ls : Array Slot), GH D (gA (mAs h) sz) (mAs h) U.heap (WM ct h st) H locs → lv_has ls 7 [(0, .ref (h 0)), (1, .int a1), (2, .int a2), (4, .int x4), (5, .int x5), (6, .int x6)] → M_middles_L23 (M_middles_J80 a1 a2) a1 a2 n23 st x4 x5 x6 = some z → W p l e rm_M_middles U m args below meth c H locs 0 0 (MQ below (GQi D (mAs h) (mAs h) (WM ct h z.1) sz z.2) args U 0 0 (gA (mAs h) sz)) (F0 m 23 ls []) := by
    intro n23
    induction n23 with
    | zero =>
      intro st x4 x5 x6 H locs ls hH hl hd
      rw [M_middles_L23] at hd
      cases hd
    | succ n23 ih23 =>
      intro st x4 x5 x6 H locs ls hH hl hd
      rw [M_middles_L23] at hd
      refine lv_iload (pc := 23) hx hb dX1_middles_23 (lv_at hl 5 rfl) ?_
      refine lv_bipush (v := (100 : Int32)) (pc := 25) hx hb dX1_middles_25 (by decide) ?_
      refine lv_icmp_ge (pc := 27) (tgt := 80) hx hb dX1_middles_27 (by decide) (fun c3 => ?_) (fun c3 => ?_)
      · have hd := if_t c3 hd
        exact h80 st x4 x5 _ _ _ hH (lv_sub hl [0, 1, 2, 3, 4] rfl) hd
      · have hd := if_n c3 hd
        refine lv_aload_n (pc := 30) hx hb dX1_middles_30 rfl (lv_at hl 0 rfl) ?_
        refine lv_aload_n (pc := 31) hx hb dX1_middles_31 rfl (lv_at hl 0 rfl) ?_
        refine mg_now (pc := 32) S hK hH dX1_middles_32 ?_
        refine lv_iconst (v := (2 : Int32)) (pc := 35) hx hb dX1_middles_35 (by decide) ?_
        refine lv_iload_n (pc := 36) hx hb dX1_middles_36 rfl (lv_at hl 1 rfl) ?_
        refine lv_iadd (pc := 37) hx hb dX1_middles_37 ?_
        obtain ⟨v4, hv4, hd⟩ := bs_bd hd
        refine ml_now (pc := 38) S hK hH hv4 dX1_middles_38 ?_
        refine lv_iload (pc := 39) hx hb dX1_middles_39 (lv_at hl 5 rfl) ?_
        refine lv_aload_n (pc := 41) hx hb dX1_middles_41 rfl (lv_at hl 0 rfl) ?_
        refine mg_now (pc := 42) S hK hH dX1_middles_42 ?_
        refine lv_bipush (v := (12 : Int32)) (pc := 45) hx hb dX1_middles_45 (by decide) ?_
        refine lv_iload_n (pc := 47) hx hb dX1_middles_47 rfl (lv_at hl 1 rfl) ?_
        refine lv_iadd (pc := 48) hx hb dX1_middles_48 ?_
        obtain ⟨v5, hv5, hd⟩ := bs_bd hd
        refine ml_now (pc := 49) S hK hH hv5 dX1_middles_49 ?_
        refine lv_iload_n (pc := 50) hx hb dX1_middles_50 rfl (lv_at hl 2 rfl) ?_
        obtain ⟨v6, hv6, hd⟩ := bs_bd hd
        refine call_M_fits (pc := 51) S hl hK hH q1244 hv6 ⟨Nat.le_of_ble_eq_true rfl, Nat.le_of_ble_eq_true rfl⟩ (Nat.le_of_ble_eq_true rfl) dX1_middles_51 ⟨Nat.zero_le _, Nat.zero_le _⟩ ?_
        refine lv_if_eq (pc := 54) (tgt := 74) hx hb dX1_middles_54 (by decide) (fun c7 => ?_) (fun c7 => ?_)
        · have hd := if_t c7 hd
          obtain ⟨w8, ew8, hd⟩ := bs_let_spec hd
          refine lv_iinc (pc := 74) (v := w8) (lv' := [(6, .int w8), (0, .ref (h 0)), (1, .int a1), (2, .int a2), (4, .int x4), (5, .int x5)]) hx hb dX1_middles_74 hl (k := 5) rfl (by rw [ew8]; rfl) (by decide) rfl (fun ls hl => ?_)
          refine lv_goto (pc := 77) (tgt := 23) hx hb dX1_middles_77 (by decide) ?_
          exact ih23 st x4 x5 w8 _ _ _ hH (lv_sub hl [1, 2, 3, 4, 5, 0] rfl) hd
        · have hd := if_n c7 hd
          refine lv_iload (pc := 57) hx hb dX1_middles_57 (lv_at hl 3 rfl) ?_
          refine lv_if_ne (pc := 59) (tgt := 67) hx hb dX1_middles_59 (by decide) (fun c9 => ?_) (fun c9 => ?_)
          · have hd := if_n c9 hd
            refine lv_iload (pc := 67) hx hb dX1_middles_67 (lv_at hl 4 rfl) ?_
            refine lv_istore (pc := 69) (lv' := [(5, .int x5), (0, .ref (h 0)), (1, .int a1), (2, .int a2), (4, .int x4), (6, .int x6)]) hx hb dX1_middles_69 hl (by decide) rfl (fun ls hl => ?_)
            obtain ⟨w10, ew10, hd⟩ := bs_let_spec hd
            refine lv_iinc (pc := 71) (v := w10) (lv' := [(4, .int w10), (5, .int x5), (0, .ref (h 0)), (1, .int a1), (2, .int a2), (6, .int x6)]) hx hb dX1_middles_71 hl (k := 4) rfl (by rw [ew10]; rfl) (by decide) rfl (fun ls hl => ?_)
            obtain ⟨w11, ew11, hd⟩ := bs_let_spec hd
            refine lv_iinc (pc := 74) (v := w11) (lv' := [(6, .int w11), (4, .int w10), (5, .int x5), (0, .ref (h 0)), (1, .int a1), (2, .int a2)]) hx hb dX1_middles_74 hl (k := 5) rfl (by rw [ew11]; rfl) (by decide) rfl (fun ls hl => ?_)
            refine lv_goto (pc := 77) (tgt := 23) hx hb dX1_middles_77 (by decide) ?_
            exact ih23 st w10 x5 w11 _ _ _ hH (lv_sub hl [3, 4, 5, 1, 2, 0] rfl) hd
          · have hd := if_t c9 hd
            refine lv_iload (pc := 62) hx hb dX1_middles_62 (lv_at hl 5 rfl) ?_
            refine lv_goto (pc := 64) (tgt := 69) hx hb dX1_middles_64 (by decide) ?_
            refine lv_istore (pc := 69) (lv' := [(5, .int x6), (0, .ref (h 0)), (1, .int a1), (2, .int a2), (4, .int x4), (6, .int x6)]) hx hb dX1_middles_69 hl (by decide) rfl (fun ls hl => ?_)
            obtain ⟨w12, ew12, hd⟩ := bs_let_spec hd
            refine lv_iinc (pc := 71) (v := w12) (lv' := [(4, .int w12), (5, .int x6), (0, .ref (h 0)), (1, .int a1), (2, .int a2), (6, .int x6)]) hx hb dX1_middles_71 hl (k := 4) rfl (by rw [ew12]; rfl) (by decide) rfl (fun ls hl => ?_)
            obtain ⟨w13, ew13, hd⟩ := bs_let_spec hd
            refine lv_iinc (pc := 74) (v := w13) (lv' := [(6, .int w13), (4, .int w12), (5, .int x6), (0, .ref (h 0)), (1, .int a1), (2, .int a2)]) hx hb dX1_middles_74 hl (k := 5) rfl (by rw [ew13]; rfl) (by decide) rfl (fun ls hl => ?_)
            refine lv_goto (pc := 77) (tgt := 23) hx hb dX1_middles_77 (by decide) ?_
            exact ih23 st w12 x6 w13 _ _ _ hH (lv_sub hl [3, 4, 5, 1, 2, 0] rfl) hd
  unfold M_middles at hd
  refine lv_aload_n (pc := 0) hx hb dX1_middles_0 rfl (lv_at hl 0 rfl) ?_
  refine lv_iload_n (pc := 1) hx hb dX1_middles_1 rfl (lv_at hl 1 rfl) ?_
  refine lv_iload_n (pc := 2) hx hb dX1_middles_2 rfl (lv_at hl 2 rfl) ?_
  obtain ⟨q1, hq1, hd⟩ := bs_bd hd
  refine call_M_refusesPairs (pc := 3) S hl hK hH q1240 hq1 ⟨Nat.le_of_ble_eq_true rfl, Nat.le_of_ble_eq_true rfl⟩ (Nat.le_of_ble_eq_true rfl) dX1_middles_3 ⟨Nat.zero_le _, Nat.zero_le _⟩ (fun H locs hH => ?_)
  refine lv_istore_n (pc := 6) (lv' := [(3, .int q1.2), (0, .ref (h 0)), (1, .int a1), (2, .int a2)]) hx hb dX1_middles_6 rfl hl (by decide) rfl (fun ls hl => ?_)
  refine lv_iload_n (pc := 7) hx hb dX1_middles_7 rfl (lv_at hl 0 rfl) ?_
  refine lv_if_eq (pc := 8) (tgt := 13) hx hb dX1_middles_8 (by decide) (fun c2 => ?_) (fun c2 => ?_)
  · have hd := if_t c2 hd
    refine lv_iconst (v := (0 : Int32)) (pc := 13) hx hb dX1_middles_13 (by decide) ?_
    refine lv_istore (pc := 14) (lv' := [(4, .int (0 : Int32)), (3, .int q1.2), (0, .ref (h 0)), (1, .int a1), (2, .int a2)]) hx hb dX1_middles_14 hl (by decide) rfl (fun ls hl => ?_)
    refine lv_bipush (v := (-9 : Int32)) (pc := 16) hx hb dX1_middles_16 (by decide) ?_
    refine lv_istore (pc := 18) (lv' := [(5, .int (-9 : Int32)), (4, .int (0 : Int32)), (3, .int q1.2), (0, .ref (h 0)), (1, .int a1), (2, .int a2)]) hx hb dX1_middles_18 hl (by decide) rfl (fun ls hl => ?_)
    refine lv_iconst (v := (0 : Int32)) (pc := 20) hx hb dX1_middles_20 (by decide) ?_
    refine lv_istore (pc := 21) (lv' := [(6, .int (0 : Int32)), (5, .int (-9 : Int32)), (4, .int (0 : Int32)), (3, .int q1.2), (0, .ref (h 0)), (1, .int a1), (2, .int a2)]) hx hb dX1_middles_21 hl (by decide) rfl (fun ls hl => ?_)
    exact h23 bs_fu q1.1 (0 : Int32) (-9 : Int32) (0 : Int32) _ _ _ hH (lv_sub hl [4, 5, 6, 2, 1, 0] rfl) hd
  · have hd := if_n c2 hd
    refine lv_iload_n (pc := 11) hx hb dX1_middles_11 rfl (lv_at hl 0 rfl) ?_
    exact g_iret (WM ct h) hd S hr hlk hH dX1_middles_12
section CR_M_middles
variable {p : Program} {l : Launch} {e : Env} {R : Room} {s : State} {m : MethodId} {args : Array Value} {below : List Frame} {meth : Method} {c : Code} {H : Heap} {locs : List Loc} {cells slots : Nat} {Q : State → Prop}
variable {cc : ByteArray} {pc nL idx : Nat} {ls : Array Slot} {rest : List Value} {lv : List (Nat × Value)} {A : Nat → Prop} {H0 : Heap} {own : String}
theorem call_M_middles {D : va_G} {ct : Nat → ClassId} {h : Nat → Nat} {st : MS} {a1 : Int32} {a2 : Int32} {z : (MS × Int32)} (S : CallFix p m c cc nL s args lw_all own) (hl : lv_has ls nL lv) (hK : va_K D clA (tysG ct) s) (hH : GH D A (mAs h) H0 (WM ct h st) H locs) (hlk : Cond.methodLink own idx yX1_middles ∈ lw_all) (hv : M_middles st a1 a2 = some z) (hR : 4 ≤ R.frames ∧ 102 ≤ R.locals) (hsum : (rest.map fun v => v.category).sum ≤ 8) (hdg : decode cc pc = .ok (.invokevirtual idx, 3)) (hf : cells ≤ R.cells ∧ slots ≤ R.slots)
    (k : ∀ (H1 : Heap) (locs1 : List Loc), GH D A (mAs h) H0 (WM ct h z.1) H1 locs1 → W p l e R s m args below meth c H1 locs1 cells slots Q (F0 m (pc + 3) ls (.int z.2 :: rest))) : W p l e R s m args below meth c H locs cells slots Q (F0 m pc ls (.int a2 :: .int a1 :: .ref (h 0) :: rest)) :=
  g_calli (av := [.int a1, .int a2]) S hl gE_0_ok trivial hK hH (met_M_middles l D ct h H.size st a1 a2 z hv) (lw_V hlk q1237 q1238 q70 q1239) rfl rfl ⟨rfl, by decide, by decide, by show (parseMethodDescriptor yX1_middles.desc).map (fun d => d.parameters.length) = some 2; decide +kernel⟩ hR (m_recv hK hH) (fun _ h => Or.inl h) rfl hsum hdg hf k
end CR_M_middles
/-! CapCouncilModel.wides (II)I -/
def M_wides_L19 (a1 : Int32) (a2 : Int32) : Nat → MS → Int32 → Int32 → Option (MS × Int32)
  | 0, _, _, _ => none
  | n + 1, st, x4, x5 =>
    if (10 : Int32) ≤ x5 then
      (some (st, x4))
    else
      ((bs_ld (ma st 0) 84 ((2 : Int32) + a1)).bind fun v4 =>
      (bs_ld (ma st 0) 84 ((7 : Int32) + a1)).bind fun v5 =>
      (M_fits st v4 v5 x5 a2).bind fun v6 =>
      if v6 = 0 then
        (bs_let (x4 ||| (0 : Int32)) fun w8 =>
        bs_let (x5 + (1 : Int32)) fun w9 =>
        M_wides_L19 a1 a2 n st w8 w9)
      else
        (bs_let (x4 ||| ((1 : Int32) <<< (x5 &&& 31))) fun w10 =>
        bs_let (x5 + (1 : Int32)) fun w11 =>
        M_wides_L19 a1 a2 n st w10 w11))
def M_wides (st : MS) (a1 : Int32) (a2 : Int32) : Option (MS × Int32) :=
  (M_refusesPairs st a1 a2).bind fun q1 =>
  if q1.2 = 0 then
    (M_wides_L19 a1 a2 bs_fu q1.1 (0 : Int32) (0 : Int32))
  else
    (some (q1.1, q1.2))
def rm_M_wides : Room := { frames := 3, cells := 0, slots := 0, locals := 76 }
set_option maxHeartbeats 4000000 in
set_option maxRecDepth 100000 in
theorem met_M_wides (l : Launch) (D : va_G) (ct : Nat → ClassId) (h : Nat → Nat) (sz : Nat) (st : MS) (a1 : Int32) (a2 : Int32) (z : (MS × Int32)) (hd : M_wides st a1 a2 = some z) : Met l yX1_wides (ws_ yX1_wides cX1_wides 6 (some .int)) rm_M_wides (GPre gE_0 D ct (mAs h) (WM ct h st) sz [.ref (h 0), .int a1, .int a2]) (GQi D (mAs h) (mAs h) (WM ct h z.1) sz z.2) 0 0 (gA (mAs h) sz) := by
  refine g_met (cc := cX1_wides) (maxL := 6) (ret := (some .int)) (by decide) (Nat.le_of_ble_eq_true rfl) ?_
  intro p e U m args below meth c ls S hr hlk hK hH hE hsz hl
  have S : CallFix p m c cX1_wides 6 U args lw_all RX1 := S
  have hx := S.1
  have hb := S.2.1
  have hl : lv_has ls 6 [(0, .ref (h 0)), (1, .int a1), (2, .int a2)] := hl
  have h19 : ∀ (n19 : Nat) (st : MS) (x4 : Int32) (x5 : Int32) (H : Heap) (locs : List Loc) (ls : Array Slot), GH D (gA (mAs h) sz) (mAs h) U.heap (WM ct h st) H locs → lv_has ls 6 [(0, .ref (h 0)), (1, .int a1), (2, .int a2), (4, .int x4), (5, .int x5)] → M_wides_L19 a1 a2 n19 st x4 x5 = some z → W p l e rm_M_wides U m args below meth c H locs 0 0 (MQ below (GQi D (mAs h) (mAs h) (WM ct h z.1) sz z.2) args U 0 0 (gA (mAs h) sz)) (F0 m 19 ls []) := by
    intro n19
    induction n19 with
    | zero =>
      intro st x4 x5 H locs ls hH hl hd
      rw [M_wides_L19] at hd
      cases hd
    | succ n19 ih19 =>
      intro st x4 x5 H locs ls hH hl hd
      rw [M_wides_L19] at hd
      refine lv_iload (pc := 19) hx hb dX1_wides_19 (lv_at hl 4 rfl) ?_
      refine lv_bipush (v := (10 : Int32)) (pc := 21) hx hb dX1_wides_21 (by decide) ?_
      refine lv_icmp_ge (pc := 23) (tgt := 72) hx hb dX1_wides_23 (by decide) (fun c3 => ?_) (fun c3 => ?_)
      · have hd := if_t c3 hd
        refine lv_iload (pc := 72) hx hb dX1_wides_72 (lv_at hl 3 rfl) ?_
        exact g_iret (WM ct h) hd S hr hlk hH dX1_wides_74
      · have hd := if_n c3 hd
        refine lv_iload (pc := 26) hx hb dX1_wides_26 (lv_at hl 3 rfl) ?_
        refine lv_aload_n (pc := 28) hx hb dX1_wides_28 rfl (lv_at hl 0 rfl) ?_
        refine lv_aload_n (pc := 29) hx hb dX1_wides_29 rfl (lv_at hl 0 rfl) ?_
        refine mg_now (pc := 30) S hK hH dX1_wides_30 ?_
        refine lv_iconst (v := (2 : Int32)) (pc := 33) hx hb dX1_wides_33 (by decide) ?_
        refine lv_iload_n (pc := 34) hx hb dX1_wides_34 rfl (lv_at hl 1 rfl) ?_
        refine lv_iadd (pc := 35) hx hb dX1_wides_35 ?_
        obtain ⟨v4, hv4, hd⟩ := bs_bd hd
        refine ml_now (pc := 36) S hK hH hv4 dX1_wides_36 ?_
        refine lv_aload_n (pc := 37) hx hb dX1_wides_37 rfl (lv_at hl 0 rfl) ?_
        refine mg_now (pc := 38) S hK hH dX1_wides_38 ?_
        refine lv_bipush (v := (7 : Int32)) (pc := 41) hx hb dX1_wides_41 (by decide) ?_
        refine lv_iload_n (pc := 43) hx hb dX1_wides_43 rfl (lv_at hl 1 rfl) ?_
        refine lv_iadd (pc := 44) hx hb dX1_wides_44 ?_
        obtain ⟨v5, hv5, hd⟩ := bs_bd hd
        refine ml_now (pc := 45) S hK hH hv5 dX1_wides_45 ?_
        refine lv_iload (pc := 46) hx hb dX1_wides_46 (lv_at hl 4 rfl) ?_
        refine lv_iload_n (pc := 48) hx hb dX1_wides_48 rfl (lv_at hl 2 rfl) ?_
        obtain ⟨v6, hv6, hd⟩ := bs_bd hd
        refine call_M_fits (pc := 49) S hl hK hH q1244 hv6 ⟨Nat.le_of_ble_eq_true rfl, Nat.le_of_ble_eq_true rfl⟩ (Nat.le_of_ble_eq_true rfl) dX1_wides_49 ⟨Nat.zero_le _, Nat.zero_le _⟩ ?_
        refine lv_if_eq (pc := 52) (tgt := 62) hx hb dX1_wides_52 (by decide) (fun c7 => ?_) (fun c7 => ?_)
        · have hd := if_t c7 hd
          refine lv_iconst (v := (0 : Int32)) (pc := 62) hx hb dX1_wides_62 (by decide) ?_
          refine lv_ior (pc := 63) hx hb dX1_wides_63 ?_
          obtain ⟨w8, ew8, hd⟩ := bs_let_spec hd
          refine lv_topE (pc := 64) ew8 ?_
          refine lv_istore (pc := 64) (lv' := [(4, .int w8), (0, .ref (h 0)), (1, .int a1), (2, .int a2), (5, .int x5)]) hx hb dX1_wides_64 hl (by decide) rfl (fun ls hl => ?_)
          obtain ⟨w9, ew9, hd⟩ := bs_let_spec hd
          refine lv_iinc (pc := 66) (v := w9) (lv' := [(5, .int w9), (4, .int w8), (0, .ref (h 0)), (1, .int a1), (2, .int a2)]) hx hb dX1_wides_66 hl (k := 4) rfl (by rw [ew9]; rfl) (by decide) rfl (fun ls hl => ?_)
          refine lv_goto (pc := 69) (tgt := 19) hx hb dX1_wides_69 (by decide) ?_
          exact ih19 st w8 w9 _ _ _ hH (lv_sub hl [2, 3, 4, 1, 0] rfl) hd
        · have hd := if_n c7 hd
          refine lv_iconst (v := (1 : Int32)) (pc := 55) hx hb dX1_wides_55 (by decide) ?_
          refine lv_iload (pc := 56) hx hb dX1_wides_56 (lv_at hl 4 rfl) ?_
          refine lv_ishl (pc := 58) hx hb dX1_wides_58 ?_
          refine lv_goto (pc := 59) (tgt := 63) hx hb dX1_wides_59 (by decide) ?_
          refine lv_ior (pc := 63) hx hb dX1_wides_63 ?_
          obtain ⟨w10, ew10, hd⟩ := bs_let_spec hd
          refine lv_topE (pc := 64) ew10 ?_
          refine lv_istore (pc := 64) (lv' := [(4, .int w10), (0, .ref (h 0)), (1, .int a1), (2, .int a2), (5, .int x5)]) hx hb dX1_wides_64 hl (by decide) rfl (fun ls hl => ?_)
          obtain ⟨w11, ew11, hd⟩ := bs_let_spec hd
          refine lv_iinc (pc := 66) (v := w11) (lv' := [(5, .int w11), (4, .int w10), (0, .ref (h 0)), (1, .int a1), (2, .int a2)]) hx hb dX1_wides_66 hl (k := 4) rfl (by rw [ew11]; rfl) (by decide) rfl (fun ls hl => ?_)
          refine lv_goto (pc := 69) (tgt := 19) hx hb dX1_wides_69 (by decide) ?_
          exact ih19 st w10 w11 _ _ _ hH (lv_sub hl [2, 3, 4, 1, 0] rfl) hd
  unfold M_wides at hd
  refine lv_aload_n (pc := 0) hx hb dX1_wides_0 rfl (lv_at hl 0 rfl) ?_
  refine lv_iload_n (pc := 1) hx hb dX1_wides_1 rfl (lv_at hl 1 rfl) ?_
  refine lv_iload_n (pc := 2) hx hb dX1_wides_2 rfl (lv_at hl 2 rfl) ?_
  obtain ⟨q1, hq1, hd⟩ := bs_bd hd
  refine call_M_refusesPairs (pc := 3) S hl hK hH q1240 hq1 ⟨Nat.le_of_ble_eq_true rfl, Nat.le_of_ble_eq_true rfl⟩ (Nat.le_of_ble_eq_true rfl) dX1_wides_3 ⟨Nat.zero_le _, Nat.zero_le _⟩ (fun H locs hH => ?_)
  refine lv_istore_n (pc := 6) (lv' := [(3, .int q1.2), (0, .ref (h 0)), (1, .int a1), (2, .int a2)]) hx hb dX1_wides_6 rfl hl (by decide) rfl (fun ls hl => ?_)
  refine lv_iload_n (pc := 7) hx hb dX1_wides_7 rfl (lv_at hl 0 rfl) ?_
  refine lv_if_eq (pc := 8) (tgt := 13) hx hb dX1_wides_8 (by decide) (fun c2 => ?_) (fun c2 => ?_)
  · have hd := if_t c2 hd
    refine lv_iconst (v := (0 : Int32)) (pc := 13) hx hb dX1_wides_13 (by decide) ?_
    refine lv_istore (pc := 14) (lv' := [(4, .int (0 : Int32)), (3, .int q1.2), (0, .ref (h 0)), (1, .int a1), (2, .int a2)]) hx hb dX1_wides_14 hl (by decide) rfl (fun ls hl => ?_)
    refine lv_iconst (v := (0 : Int32)) (pc := 16) hx hb dX1_wides_16 (by decide) ?_
    refine lv_istore (pc := 17) (lv' := [(5, .int (0 : Int32)), (4, .int (0 : Int32)), (3, .int q1.2), (0, .ref (h 0)), (1, .int a1), (2, .int a2)]) hx hb dX1_wides_17 hl (by decide) rfl (fun ls hl => ?_)
    exact h19 bs_fu q1.1 (0 : Int32) (0 : Int32) _ _ _ hH (lv_sub hl [3, 4, 5, 1, 0] rfl) hd
  · have hd := if_n c2 hd
    refine lv_iload_n (pc := 11) hx hb dX1_wides_11 rfl (lv_at hl 0 rfl) ?_
    exact g_iret (WM ct h) hd S hr hlk hH dX1_wides_12
section CR_M_wides
variable {p : Program} {l : Launch} {e : Env} {R : Room} {s : State} {m : MethodId} {args : Array Value} {below : List Frame} {meth : Method} {c : Code} {H : Heap} {locs : List Loc} {cells slots : Nat} {Q : State → Prop}
variable {cc : ByteArray} {pc nL idx : Nat} {ls : Array Slot} {rest : List Value} {lv : List (Nat × Value)} {A : Nat → Prop} {H0 : Heap} {own : String}
theorem call_M_wides {D : va_G} {ct : Nat → ClassId} {h : Nat → Nat} {st : MS} {a1 : Int32} {a2 : Int32} {z : (MS × Int32)} (S : CallFix p m c cc nL s args lw_all own) (hl : lv_has ls nL lv) (hK : va_K D clA (tysG ct) s) (hH : GH D A (mAs h) H0 (WM ct h st) H locs) (hlk : Cond.methodLink own idx yX1_wides ∈ lw_all) (hv : M_wides st a1 a2 = some z) (hR : 4 ≤ R.frames ∧ 101 ≤ R.locals) (hsum : (rest.map fun v => v.category).sum ≤ 8) (hdg : decode cc pc = .ok (.invokevirtual idx, 3)) (hf : cells ≤ R.cells ∧ slots ≤ R.slots)
    (k : ∀ (H1 : Heap) (locs1 : List Loc), GH D A (mAs h) H0 (WM ct h z.1) H1 locs1 → W p l e R s m args below meth c H1 locs1 cells slots Q (F0 m (pc + 3) ls (.int z.2 :: rest))) : W p l e R s m args below meth c H locs cells slots Q (F0 m pc ls (.int a2 :: .int a1 :: .ref (h 0) :: rest)) :=
  g_calli (av := [.int a1, .int a2]) S hl gE_0_ok trivial hK hH (met_M_wides l D ct h H.size st a1 a2 z hv) (lw_V hlk q1249 q1250 q70 q1251) rfl rfl ⟨rfl, by decide, by decide, by show (parseMethodDescriptor yX1_wides.desc).map (fun d => d.parameters.length) = some 2; decide +kernel⟩ hR (m_recv hK hH) (fun _ h => Or.inl h) rfl hsum hdg hf k
end CR_M_wides
/-! CapCouncilModel.kindsOf (II)I -/
def M_kindsOf_L5 (st : MS) (a1 : Int32) (a2 : Int32) : Nat → Int32 → Int32 → Option Int32
  | 0, _, _ => none
  | n + 1, x3, x4 =>
    if (6 : Int32) ≤ x4 then
      (some x3)
    else
      ((bs_ld (ma st 0) 84 ((7 : Int32) + a1)).bind fun v2 =>
      (bs_ld (ma st 0) 84 ((12 : Int32) + a1)).bind fun v3 =>
      (M_fits st x4 v2 v3 a2).bind fun v4 =>
      if v4 = 0 then
        (bs_let (x3 ||| (0 : Int32)) fun w6 =>
        bs_let (x4 + (1 : Int32)) fun w7 =>
        M_kindsOf_L5 st a1 a2 n w6 w7)
      else
        (bs_let (x3 ||| ((1 : Int32) <<< (x4 &&& 31))) fun w8 =>
        bs_let (x4 + (1 : Int32)) fun w9 =>
        M_kindsOf_L5 st a1 a2 n w8 w9))
def M_kindsOf (st : MS) (a1 : Int32) (a2 : Int32) : Option Int32 :=
  M_kindsOf_L5 st a1 a2 bs_fu (0 : Int32) (0 : Int32)
def rm_M_kindsOf : Room := { frames := 3, cells := 0, slots := 0, locals := 76 }
set_option maxHeartbeats 4000000 in
set_option maxRecDepth 100000 in
theorem met_M_kindsOf (l : Launch) (D : va_G) (ct : Nat → ClassId) (h : Nat → Nat) (sz : Nat) (st : MS) (a1 : Int32) (a2 : Int32) (z : Int32) (hd : M_kindsOf st a1 a2 = some z) : Met l yX1_kindsOf (ws_ yX1_kindsOf cX1_kindsOf 5 (some .int)) rm_M_kindsOf (GPre gE_0 D ct (mAs h) (WM ct h st) sz [.ref (h 0), .int a1, .int a2]) (vp_Si (fun r => r = z)) 0 0 (fun _ => False) := by
  refine g_met (cc := cX1_kindsOf) (maxL := 5) (ret := (some .int)) (by decide) (Nat.le_of_ble_eq_true rfl) ?_
  intro p e U m args below meth c ls S hr hlk hK hH hE hsz hl
  have S : CallFix p m c cX1_kindsOf 5 U args lw_all RX1 := S
  have hx := S.1
  have hb := S.2.1
  have hl : lv_has ls 5 [(0, .ref (h 0)), (1, .int a1), (2, .int a2)] := hl
  have h5 : ∀ (n5 : Nat) (x3 : Int32) (x4 : Int32) (ls : Array Slot), lv_has ls 5 [(0, .ref (h 0)), (1, .int a1), (2, .int a2), (3, .int x3), (4, .int x4)] → M_kindsOf_L5 st a1 a2 n5 x3 x4 = some z → W p l e rm_M_kindsOf U m args below meth c U.heap [] 0 0 (MQ below (vp_Si (fun r => r = z)) args U 0 0 (fun _ => False)) (F0 m 5 ls []) := by
    intro n5
    induction n5 with
    | zero =>
      intro x3 x4 ls hl hd
      rw [M_kindsOf_L5] at hd
      cases hd
    | succ n5 ih5 =>
      intro x3 x4 ls hl hd
      rw [M_kindsOf_L5] at hd
      refine lv_iload (pc := 5) hx hb dX1_kindsOf_5 (lv_at hl 4 rfl) ?_
      refine lv_bipush (v := (6 : Int32)) (pc := 7) hx hb dX1_kindsOf_7 (by decide) ?_
      refine lv_icmp_ge (pc := 9) (tgt := 57) hx hb dX1_kindsOf_9 (by decide) (fun c1 => ?_) (fun c1 => ?_)
      · have hd := if_t c1 hd
        refine lv_iload_n (pc := 57) hx hb dX1_kindsOf_57 rfl (lv_at hl 3 rfl) ?_
        exact r_iret hd S hr hlk dX1_kindsOf_58
      · have hd := if_n c1 hd
        refine lv_iload_n (pc := 12) hx hb dX1_kindsOf_12 rfl (lv_at hl 3 rfl) ?_
        refine lv_aload_n (pc := 13) hx hb dX1_kindsOf_13 rfl (lv_at hl 0 rfl) ?_
        refine lv_iload (pc := 14) hx hb dX1_kindsOf_14 (lv_at hl 4 rfl) ?_
        refine lv_aload_n (pc := 16) hx hb dX1_kindsOf_16 rfl (lv_at hl 0 rfl) ?_
        refine mg_now (pc := 17) S hK hH dX1_kindsOf_17 ?_
        refine lv_bipush (v := (7 : Int32)) (pc := 20) hx hb dX1_kindsOf_20 (by decide) ?_
        refine lv_iload_n (pc := 22) hx hb dX1_kindsOf_22 rfl (lv_at hl 1 rfl) ?_
        refine lv_iadd (pc := 23) hx hb dX1_kindsOf_23 ?_
        obtain ⟨v2, hv2, hd⟩ := bs_bd hd
        refine ml_now (pc := 24) S hK hH hv2 dX1_kindsOf_24 ?_
        refine lv_aload_n (pc := 25) hx hb dX1_kindsOf_25 rfl (lv_at hl 0 rfl) ?_
        refine mg_now (pc := 26) S hK hH dX1_kindsOf_26 ?_
        refine lv_bipush (v := (12 : Int32)) (pc := 29) hx hb dX1_kindsOf_29 (by decide) ?_
        refine lv_iload_n (pc := 31) hx hb dX1_kindsOf_31 rfl (lv_at hl 1 rfl) ?_
        refine lv_iadd (pc := 32) hx hb dX1_kindsOf_32 ?_
        obtain ⟨v3, hv3, hd⟩ := bs_bd hd
        refine ml_now (pc := 33) S hK hH hv3 dX1_kindsOf_33 ?_
        refine lv_iload_n (pc := 34) hx hb dX1_kindsOf_34 rfl (lv_at hl 2 rfl) ?_
        obtain ⟨v4, hv4, hd⟩ := bs_bd hd
        refine call_M_fits (pc := 35) S hl hK hH q1244 hv4 ⟨Nat.le_of_ble_eq_true rfl, Nat.le_of_ble_eq_true rfl⟩ (Nat.le_of_ble_eq_true rfl) dX1_kindsOf_35 ⟨Nat.zero_le _, Nat.zero_le _⟩ ?_
        refine lv_if_eq (pc := 38) (tgt := 48) hx hb dX1_kindsOf_38 (by decide) (fun c5 => ?_) (fun c5 => ?_)
        · have hd := if_t c5 hd
          refine lv_iconst (v := (0 : Int32)) (pc := 48) hx hb dX1_kindsOf_48 (by decide) ?_
          refine lv_ior (pc := 49) hx hb dX1_kindsOf_49 ?_
          obtain ⟨w6, ew6, hd⟩ := bs_let_spec hd
          refine lv_topE (pc := 50) ew6 ?_
          refine lv_istore_n (pc := 50) (lv' := [(3, .int w6), (0, .ref (h 0)), (1, .int a1), (2, .int a2), (4, .int x4)]) hx hb dX1_kindsOf_50 rfl hl (by decide) rfl (fun ls hl => ?_)
          obtain ⟨w7, ew7, hd⟩ := bs_let_spec hd
          refine lv_iinc (pc := 51) (v := w7) (lv' := [(4, .int w7), (3, .int w6), (0, .ref (h 0)), (1, .int a1), (2, .int a2)]) hx hb dX1_kindsOf_51 hl (k := 4) rfl (by rw [ew7]; rfl) (by decide) rfl (fun ls hl => ?_)
          refine lv_goto (pc := 54) (tgt := 5) hx hb dX1_kindsOf_54 (by decide) ?_
          exact ih5 w6 w7 _ (lv_sub hl [2, 3, 4, 1, 0] rfl) hd
        · have hd := if_n c5 hd
          refine lv_iconst (v := (1 : Int32)) (pc := 41) hx hb dX1_kindsOf_41 (by decide) ?_
          refine lv_iload (pc := 42) hx hb dX1_kindsOf_42 (lv_at hl 4 rfl) ?_
          refine lv_ishl (pc := 44) hx hb dX1_kindsOf_44 ?_
          refine lv_goto (pc := 45) (tgt := 49) hx hb dX1_kindsOf_45 (by decide) ?_
          refine lv_ior (pc := 49) hx hb dX1_kindsOf_49 ?_
          obtain ⟨w8, ew8, hd⟩ := bs_let_spec hd
          refine lv_topE (pc := 50) ew8 ?_
          refine lv_istore_n (pc := 50) (lv' := [(3, .int w8), (0, .ref (h 0)), (1, .int a1), (2, .int a2), (4, .int x4)]) hx hb dX1_kindsOf_50 rfl hl (by decide) rfl (fun ls hl => ?_)
          obtain ⟨w9, ew9, hd⟩ := bs_let_spec hd
          refine lv_iinc (pc := 51) (v := w9) (lv' := [(4, .int w9), (3, .int w8), (0, .ref (h 0)), (1, .int a1), (2, .int a2)]) hx hb dX1_kindsOf_51 hl (k := 4) rfl (by rw [ew9]; rfl) (by decide) rfl (fun ls hl => ?_)
          refine lv_goto (pc := 54) (tgt := 5) hx hb dX1_kindsOf_54 (by decide) ?_
          exact ih5 w8 w9 _ (lv_sub hl [2, 3, 4, 1, 0] rfl) hd
  unfold M_kindsOf at hd
  refine lv_iconst (v := (0 : Int32)) (pc := 0) hx hb dX1_kindsOf_0 (by decide) ?_
  refine lv_istore_n (pc := 1) (lv' := [(3, .int (0 : Int32)), (0, .ref (h 0)), (1, .int a1), (2, .int a2)]) hx hb dX1_kindsOf_1 rfl hl (by decide) rfl (fun ls hl => ?_)
  refine lv_iconst (v := (0 : Int32)) (pc := 2) hx hb dX1_kindsOf_2 (by decide) ?_
  refine lv_istore (pc := 3) (lv' := [(4, .int (0 : Int32)), (3, .int (0 : Int32)), (0, .ref (h 0)), (1, .int a1), (2, .int a2)]) hx hb dX1_kindsOf_3 hl (by decide) rfl (fun ls hl => ?_)
  exact h5 bs_fu (0 : Int32) (0 : Int32) _ (lv_sub hl [2, 3, 4, 1, 0] rfl) hd
section CR_M_kindsOf
variable {p : Program} {l : Launch} {e : Env} {R : Room} {s : State} {m : MethodId} {args : Array Value} {below : List Frame} {meth : Method} {c : Code} {H : Heap} {locs : List Loc} {cells slots : Nat} {Q : State → Prop}
variable {cc : ByteArray} {pc nL idx : Nat} {ls : Array Slot} {rest : List Value} {lv : List (Nat × Value)} {A : Nat → Prop} {H0 : Heap} {own : String}
theorem call_M_kindsOf {D : va_G} {ct : Nat → ClassId} {h : Nat → Nat} {st : MS} {a1 : Int32} {a2 : Int32} {z : Int32} (S : CallFix p m c cc nL s args lw_all own) (hl : lv_has ls nL lv) (hK : va_K D clA (tysG ct) s) (hH : GH D A (mAs h) H0 (WM ct h st) H locs) (hlk : Cond.methodLink own idx yX1_kindsOf ∈ lw_all) (hv : M_kindsOf st a1 a2 = some z) (hR : 4 ≤ R.frames ∧ 100 ≤ R.locals) (hsum : (rest.map fun v => v.category).sum ≤ 8) (hdg : decode cc pc = .ok (.invokevirtual idx, 3)) (hf : cells ≤ R.cells ∧ slots ≤ R.slots)
    (k : W p l e R s m args below meth c H locs cells slots Q (F0 m (pc + 3) ls (.int z :: rest))) : W p l e R s m args below meth c H locs cells slots Q (F0 m pc ls (.int a2 :: .int a1 :: .ref (h 0) :: rest)) :=
  r_calli (av := [.int a1, .int a2]) S hl gE_0_ok trivial hK hH (met_M_kindsOf l D ct h H.size st a1 a2 z hv) (lw_V hlk q1258 qs62 q70 q1259) rfl rfl ⟨rfl, by decide, by decide, by show (parseMethodDescriptor yX1_kindsOf.desc).map (fun d => d.parameters.length) = some 2; decide +kernel⟩ hR (m_recv hK hH) rfl hsum hdg hf k
end CR_M_kindsOf
/-! CapCouncilModel.kinds (II)I -/
def M_kinds (st : MS) (a1 : Int32) (a2 : Int32) : Option (MS × Int32) :=
  (M_refusesPairs st a1 a2).bind fun q1 =>
  if q1.2 = 0 then
    ((M_kindsOf q1.1 a1 a2).bind fun v3 =>
    some (q1.1, v3))
  else
    (some (q1.1, q1.2))
def rm_M_kinds : Room := { frames := 4, cells := 0, slots := 0, locals := 100 }
set_option maxHeartbeats 4000000 in
set_option maxRecDepth 100000 in
theorem met_M_kinds (l : Launch) (D : va_G) (ct : Nat → ClassId) (h : Nat → Nat) (sz : Nat) (st : MS) (a1 : Int32) (a2 : Int32) (z : (MS × Int32)) (hd : M_kinds st a1 a2 = some z) : Met l yX1_kinds (ws_ yX1_kinds cX1_kinds 4 (some .int)) rm_M_kinds (GPre gE_0 D ct (mAs h) (WM ct h st) sz [.ref (h 0), .int a1, .int a2]) (GQi D (mAs h) (mAs h) (WM ct h z.1) sz z.2) 0 0 (gA (mAs h) sz) := by
  refine g_met (cc := cX1_kinds) (maxL := 4) (ret := (some .int)) (by decide) (Nat.le_of_ble_eq_true rfl) ?_
  intro p e U m args below meth c ls S hr hlk hK hH hE hsz hl
  have S : CallFix p m c cX1_kinds 4 U args lw_all RX1 := S
  have hx := S.1
  have hb := S.2.1
  have hl : lv_has ls 4 [(0, .ref (h 0)), (1, .int a1), (2, .int a2)] := hl
  unfold M_kinds at hd
  refine lv_aload_n (pc := 0) hx hb dX1_kinds_0 rfl (lv_at hl 0 rfl) ?_
  refine lv_iload_n (pc := 1) hx hb dX1_kinds_1 rfl (lv_at hl 1 rfl) ?_
  refine lv_iload_n (pc := 2) hx hb dX1_kinds_2 rfl (lv_at hl 2 rfl) ?_
  obtain ⟨q1, hq1, hd⟩ := bs_bd hd
  refine call_M_refusesPairs (pc := 3) S hl hK hH q1240 hq1 ⟨Nat.le_of_ble_eq_true rfl, Nat.le_of_ble_eq_true rfl⟩ (Nat.le_of_ble_eq_true rfl) dX1_kinds_3 ⟨Nat.zero_le _, Nat.zero_le _⟩ (fun H locs hH => ?_)
  refine lv_istore_n (pc := 6) (lv' := [(3, .int q1.2), (0, .ref (h 0)), (1, .int a1), (2, .int a2)]) hx hb dX1_kinds_6 rfl hl (by decide) rfl (fun ls hl => ?_)
  refine lv_iload_n (pc := 7) hx hb dX1_kinds_7 rfl (lv_at hl 0 rfl) ?_
  refine lv_if_eq (pc := 8) (tgt := 15) hx hb dX1_kinds_8 (by decide) (fun c2 => ?_) (fun c2 => ?_)
  · have hd := if_t c2 hd
    refine lv_aload_n (pc := 15) hx hb dX1_kinds_15 rfl (lv_at hl 1 rfl) ?_
    refine lv_iload_n (pc := 16) hx hb dX1_kinds_16 rfl (lv_at hl 2 rfl) ?_
    refine lv_iload_n (pc := 17) hx hb dX1_kinds_17 rfl (lv_at hl 3 rfl) ?_
    obtain ⟨v3, hv3, hd⟩ := bs_bd hd
    refine call_M_kindsOf (pc := 18) S hl hK hH q1256 hv3 ⟨Nat.le_of_ble_eq_true rfl, Nat.le_of_ble_eq_true rfl⟩ (Nat.le_of_ble_eq_true rfl) dX1_kinds_18 ⟨Nat.zero_le _, Nat.zero_le _⟩ ?_
    exact g_iret (WM ct h) hd S hr hlk hH dX1_kinds_21
  · have hd := if_n c2 hd
    refine lv_iload_n (pc := 11) hx hb dX1_kinds_11 rfl (lv_at hl 0 rfl) ?_
    refine lv_goto (pc := 12) (tgt := 21) hx hb dX1_kinds_12 (by decide) ?_
    exact g_iret (WM ct h) hd S hr hlk hH dX1_kinds_21
section CR_M_kinds
variable {p : Program} {l : Launch} {e : Env} {R : Room} {s : State} {m : MethodId} {args : Array Value} {below : List Frame} {meth : Method} {c : Code} {H : Heap} {locs : List Loc} {cells slots : Nat} {Q : State → Prop}
variable {cc : ByteArray} {pc nL idx : Nat} {ls : Array Slot} {rest : List Value} {lv : List (Nat × Value)} {A : Nat → Prop} {H0 : Heap} {own : String}
theorem call_M_kinds {D : va_G} {ct : Nat → ClassId} {h : Nat → Nat} {st : MS} {a1 : Int32} {a2 : Int32} {z : (MS × Int32)} (S : CallFix p m c cc nL s args lw_all own) (hl : lv_has ls nL lv) (hK : va_K D clA (tysG ct) s) (hH : GH D A (mAs h) H0 (WM ct h st) H locs) (hlk : Cond.methodLink own idx yX1_kinds ∈ lw_all) (hv : M_kinds st a1 a2 = some z) (hR : 5 ≤ R.frames ∧ 123 ≤ R.locals) (hsum : (rest.map fun v => v.category).sum ≤ 8) (hdg : decode cc pc = .ok (.invokevirtual idx, 3)) (hf : cells ≤ R.cells ∧ slots ≤ R.slots)
    (k : ∀ (H1 : Heap) (locs1 : List Loc), GH D A (mAs h) H0 (WM ct h z.1) H1 locs1 → W p l e R s m args below meth c H1 locs1 cells slots Q (F0 m (pc + 3) ls (.int z.2 :: rest))) : W p l e R s m args below meth c H locs cells slots Q (F0 m pc ls (.int a2 :: .int a1 :: .ref (h 0) :: rest)) :=
  g_calli (av := [.int a1, .int a2]) S hl gE_0_ok trivial hK hH (met_M_kinds l D ct h H.size st a1 a2 z hv) (lw_V hlk q1253 q1254 q70 q1255) rfl rfl ⟨rfl, by decide, by decide, by show (parseMethodDescriptor yX1_kinds.desc).map (fun d => d.parameters.length) = some 2; decide +kernel⟩ hR (m_recv hK hH) (fun _ h => Or.inl h) rfl hsum hdg hf k
end CR_M_kinds
/-! CapCouncilModel.test (II)I -/
def M_test_J160 (k32 : MS → Int32 → Int32 → Int32 → Int32 → Option (MS × Int32)) (a1 : Int32) (a2 : Int32) (st : MS) (x4 : Int32) (x6 : Int32) (x7 : Int32) (x9 : Int32) (y0 : Int32) : Option (MS × Int32) :=
  if x6 ≤ x9 then
    (bs_let (x7 + (1 : Int32)) fun w27 =>
    k32 st x4 y0 x6 w27)
  else
    (bs_let (x7 + (1 : Int32)) fun w28 =>
    k32 st x4 y0 x9 w28)
def M_test_J144 (k32 : MS → Int32 → Int32 → Int32 → Int32 → Option (MS × Int32)) (a1 : Int32) (a2 : Int32) (st : MS) (x4 : Int32) (x5 : Int32) (x6 : Int32) (x7 : Int32) (y0 : Int32) : Option (MS × Int32) :=
  if x6 ≤ y0 then
    (M_test_J160 (k32) a1 a2 st x4 x6 x7 y0 x5)
  else
    (M_test_J160 (k32) a1 a2 st x4 x6 x7 y0 x7)
def M_test_J118 (k32 : MS → Int32 → Int32 → Int32 → Int32 → Option (MS × Int32)) (a1 : Int32) (a2 : Int32) (st : MS) (x4 : Int32) (x5 : Int32) (x6 : Int32) (x7 : Int32) (x8 : Int32) : Option (MS × Int32) :=
  (M_bits x4).bind fun v22 =>
  if x8 ≤ (v22 - x8) then
    ((M_bits x4).bind fun v24 =>
    M_test_J144 (k32) a1 a2 st x4 x5 x6 x7 (v24 - x8))
  else
    (M_test_J144 (k32) a1 a2 st x4 x5 x6 x7 x8)
def M_test_L50 (k118 : MS → Int32 → Int32 → Int32 → Int32 → Int32 → Option (MS × Int32)) (a1 : Int32) (a2 : Int32) : Nat → MS → Int32 → Int32 → Int32 → Int32 → Int32 → Int32 → Option (MS × Int32)
  | 0, _, _, _, _, _, _, _ => none
  | n + 1, st, x4, x5, x6, x7, x8, x9 =>
    if (6 : Int32) ≤ x9 then
      (k118 st x4 x5 x6 x7 x8)
    else
      ((M_has x4 x9).bind fun v9 =>
      if v9 = 0 then
        (bs_let (x8 + (0 : Int32)) fun w11 =>
        bs_let (x9 + (1 : Int32)) fun w12 =>
        M_test_L50 k118 a1 a2 n st x4 x5 x6 x7 w11 w12)
      else
        ((bs_ld (ma st 0) 84 ((7 : Int32) + a1)).bind fun v13 =>
        (bs_ld (ma st 0) 84 ((12 : Int32) + a1)).bind fun v14 =>
        (bs_ld (ma st 0) 84 (70 : Int32)).bind fun v15 =>
        (M_isWithin x9 v13 v14 v15 x7).bind fun v16 =>
        if v16 = 0 then
          (bs_let (x8 + (0 : Int32)) fun w18 =>
          bs_let (x9 + (1 : Int32)) fun w19 =>
          M_test_L50 k118 a1 a2 n st x4 x5 x6 x7 w18 w19)
        else
          (bs_let (x8 + (1 : Int32)) fun w20 =>
          bs_let (x9 + (1 : Int32)) fun w21 =>
          M_test_L50 k118 a1 a2 n st x4 x5 x6 x7 w20 w21)))
def M_test_L32 (k184 : MS → Int32 → Int32 → Option (MS × Int32)) (a1 : Int32) (a2 : Int32) : Nat → MS → Int32 → Int32 → Int32 → Int32 → Option (MS × Int32)
  | 0, _, _, _, _, _ => none
  | n + 1, st, x4, x5, x6, x7 =>
    if (100 : Int32) ≤ x7 then
      (k184 st x5 x6)
    else
      (if x4 = 0 then
        (k184 st x5 x6)
      else
        (M_test_L50 (M_test_J118 (M_test_L32 k184 a1 a2 n) a1 a2) a1 a2 bs_fu st x4 x5 x6 x7 (0 : Int32) (0 : Int32)))
def M_test_J184 (a1 : Int32) (a2 : Int32) (st : MS) (x5 : Int32) (x6 : Int32) : Option (MS × Int32) :=
  if x5 = (-9 : Int32) then
    (some (st, x5))
  else
    ((M_asks st x6).bind fun q7 =>
    some (q7.1, x5))
def M_test (st : MS) (a1 : Int32) (a2 : Int32) : Option (MS × Int32) :=
  (M_refusesPairs st a1 a2).bind fun q1 =>
  if q1.2 = 0 then
    ((M_kindsOf q1.1 a1 a2).bind fun v3 =>
    M_test_L32 (M_test_J184 a1 a2) a1 a2 bs_fu q1.1 v3 (-9 : Int32) (1000000 : Int32) (0 : Int32))
  else
    (some (q1.1, q1.2))
def rm_M_test : Room := { frames := 4, cells := 0, slots := 0, locals := 100 }
set_option maxHeartbeats 4000000 in
set_option maxRecDepth 100000 in
theorem met_M_test (l : Launch) (D : va_G) (ct : Nat → ClassId) (h : Nat → Nat) (sz : Nat) (st : MS) (a1 : Int32) (a2 : Int32) (z : (MS × Int32)) (hd : M_test st a1 a2 = some z) : Met l yX1_test (ws_ yX1_test cX1_test 10 (some .int)) rm_M_test (GPre gE_0 D ct (mAs h) (WM ct h st) sz [.ref (h 0), .int a1, .int a2]) (GQi D (mAs h) (mAs h) (WM ct h z.1) sz z.2) 0 0 (gA (mAs h) sz) := by
  refine g_met (cc := cX1_test) (maxL := 10) (ret := (some .int)) (by decide) (Nat.le_of_ble_eq_true rfl) ?_
  intro p e U m args below meth c ls S hr hlk hK hH hE hsz hl
  have S : CallFix p m c cX1_test 10 U args lw_all RX1 := S
  have hx := S.1
  have hb := S.2.1
  have hl : lv_has ls 10 [(0, .ref (h 0)), (1, .int a1), (2, .int a2)] := hl
  have h184 : ∀ (st : MS) (x5 : Int32) (x6 : Int32) (H : Heap) (locs : List Loc) (ls : Array Slot), GH D (gA (mAs h) sz) (mAs h) U.heap (WM ct h st) H locs → lv_has ls 10 [(0, .ref (h 0)), (1, .int a1), (2, .int a2), (5, .int x5), (6, .int x6)] → M_test_J184 a1 a2 st x5 x6 = some z → W p l e rm_M_test U m args below meth c H locs 0 0 (MQ below (GQi D (mAs h) (mAs h) (WM ct h z.1) sz z.2) args U 0 0 (gA (mAs h) sz)) (F0 m 184 ls []) := by
    intro st x5 x6 H locs ls hH hl hd
    unfold M_test_J184 at hd
    refine lv_iload (pc := 184) hx hb dX1_test_184 (lv_at hl 3 rfl) ?_
    refine lv_bipush (v := (-9 : Int32)) (pc := 186) hx hb dX1_test_186 (by decide) ?_
    refine lv_icmp_ne (pc := 188) (tgt := 195) hx hb dX1_test_188 (by decide) (fun c6 => ?_) (fun c6 => ?_)
    · have hd := if_n c6 hd
      refine lv_aload_n (pc := 195) hx hb dX1_test_195 rfl (lv_at hl 0 rfl) ?_
      refine lv_iload (pc := 196) hx hb dX1_test_196 (lv_at hl 4 rfl) ?_
      obtain ⟨q7, hq7, hd⟩ := bs_bd hd
      refine call_M_asks (pc := 198) S hl hK hH q989 hq7 ⟨Nat.le_of_ble_eq_true rfl, Nat.le_of_ble_eq_true rfl⟩ (Nat.le_of_ble_eq_true rfl) dX1_test_198 ⟨Nat.zero_le _, Nat.zero_le _⟩ (fun H locs hH => ?_)
      refine lv_istore (pc := 201) (lv' := [(7, .int q7.2), (0, .ref (h 0)), (1, .int a1), (2, .int a2), (5, .int x5), (6, .int x6)]) hx hb dX1_test_201 hl (by decide) rfl (fun ls hl => ?_)
      refine lv_iload (pc := 203) hx hb dX1_test_203 (lv_at hl 4 rfl) ?_
      exact g_iret (WM ct h) hd S hr hlk hH dX1_test_205
    · have hd := if_t c6 hd
      refine lv_iconst (v := (0 : Int32)) (pc := 191) hx hb dX1_test_191 (by decide) ?_
      refine lv_goto (pc := 192) (tgt := 201) hx hb dX1_test_192 (by decide) ?_
      refine lv_istore (pc := 201) (lv' := [(7, .int (0 : Int32)), (0, .ref (h 0)), (1, .int a1), (2, .int a2), (5, .int x5), (6, .int x6)]) hx hb dX1_test_201 hl (by decide) rfl (fun ls hl => ?_)
      refine lv_iload (pc := 203) hx hb dX1_test_203 (lv_at hl 4 rfl) ?_
      exact g_iret (WM ct h) hd S hr hlk hH dX1_test_205
  have h32 : ∀ (n32 : Nat) (st : MS) (x4 : Int32) (x5 : Int32) (x6 : Int32) (x7 : Int32) (H : Heap) (locs : List Loc) (ls : Array Slot), GH D (gA (mAs h) sz) (mAs h) U.heap (WM ct h st) H locs → lv_has ls 10 [(0, .ref (h 0)), (1, .int a1), (2, .int a2), (4, .int x4), (5, .int x5), (6, .int x6), (7, .int x7)] → M_test_L32 (M_test_J184 a1 a2) a1 a2 n32 st x4 x5 x6 x7 = some z → W p l e rm_M_test U m args below meth c H locs 0 0 (MQ below (GQi D (mAs h) (mAs h) (WM ct h z.1) sz z.2) args U 0 0 (gA (mAs h) sz)) (F0 m 32 ls []) := by
    intro n32
    induction n32 with
    | zero =>
      intro st x4 x5 x6 x7 H locs ls hH hl hd
      rw [M_test_L32] at hd
      cases hd
    | succ n32 ih32 =>
      have h160 : ∀ (st : MS) (x4 : Int32) (x6 : Int32) (x7 : Int32) (x9 : Int32) (y0 : Int32) (H : Heap) (locs : List Loc) (ls : Array Slot), GH D (gA (mAs h) sz) (mAs h) U.heap (WM ct h st) H locs → lv_has ls 10 [(0, .ref (h 0)), (1, .int a1), (2, .int a2), (4, .int x4), (6, .int x6), (7, .int x7), (9, .int x9)] → M_test_J160 (M_test_L32 (M_test_J184 a1 a2) a1 a2 n32) a1 a2 st x4 x6 x7 x9 y0 = some z → W p l e rm_M_test U m args below meth c H locs 0 0 (MQ below (GQi D (mAs h) (mAs h) (WM ct h z.1) sz z.2) args U 0 0 (gA (mAs h) sz)) (F0 m 160 ls [.int y0]) := by
        intro st x4 x6 x7 x9 y0 H locs ls hH hl hd
        unfold M_test_J160 at hd
        refine lv_istore (pc := 160) (lv' := [(5, .int y0), (0, .ref (h 0)), (1, .int a1), (2, .int a2), (4, .int x4), (6, .int x6), (7, .int x7), (9, .int x9)]) hx hb dX1_test_160 hl (by decide) rfl (fun ls hl => ?_)
        refine lv_iload (pc := 162) hx hb dX1_test_162 (lv_at hl 7 rfl) ?_
        refine lv_iload (pc := 164) hx hb dX1_test_164 (lv_at hl 5 rfl) ?_
        refine lv_icmp_ge (pc := 166) (tgt := 174) hx hb dX1_test_166 (by decide) (fun c26 => ?_) (fun c26 => ?_)
        · have hd := if_t c26 hd
          refine lv_iload (pc := 174) hx hb dX1_test_174 (lv_at hl 5 rfl) ?_
          refine lv_istore (pc := 176) (lv' := [(6, .int x6), (5, .int y0), (0, .ref (h 0)), (1, .int a1), (2, .int a2), (4, .int x4), (7, .int x7), (9, .int x9)]) hx hb dX1_test_176 hl (by decide) rfl (fun ls hl => ?_)
          obtain ⟨w27, ew27, hd⟩ := bs_let_spec hd
          refine lv_iinc (pc := 178) (v := w27) (lv' := [(7, .int w27), (6, .int x6), (5, .int y0), (0, .ref (h 0)), (1, .int a1), (2, .int a2), (4, .int x4), (9, .int x9)]) hx hb dX1_test_178 hl (k := 6) rfl (by rw [ew27]; rfl) (by decide) rfl (fun ls hl => ?_)
          refine lv_goto (pc := 181) (tgt := 32) hx hb dX1_test_181 (by decide) ?_
          exact ih32 st x4 y0 x6 w27 _ _ _ hH (lv_sub hl [3, 4, 5, 6, 2, 1, 0] rfl) hd
        · have hd := if_n c26 hd
          refine lv_iload (pc := 169) hx hb dX1_test_169 (lv_at hl 7 rfl) ?_
          refine lv_goto (pc := 171) (tgt := 176) hx hb dX1_test_171 (by decide) ?_
          refine lv_istore (pc := 176) (lv' := [(6, .int x9), (5, .int y0), (0, .ref (h 0)), (1, .int a1), (2, .int a2), (4, .int x4), (7, .int x7), (9, .int x9)]) hx hb dX1_test_176 hl (by decide) rfl (fun ls hl => ?_)
          obtain ⟨w28, ew28, hd⟩ := bs_let_spec hd
          refine lv_iinc (pc := 178) (v := w28) (lv' := [(7, .int w28), (6, .int x9), (5, .int y0), (0, .ref (h 0)), (1, .int a1), (2, .int a2), (4, .int x4), (9, .int x9)]) hx hb dX1_test_178 hl (k := 6) rfl (by rw [ew28]; rfl) (by decide) rfl (fun ls hl => ?_)
          refine lv_goto (pc := 181) (tgt := 32) hx hb dX1_test_181 (by decide) ?_
          exact ih32 st x4 y0 x9 w28 _ _ _ hH (lv_sub hl [3, 4, 5, 6, 2, 1, 0] rfl) hd
      have h144 : ∀ (st : MS) (x4 : Int32) (x5 : Int32) (x6 : Int32) (x7 : Int32) (y0 : Int32) (H : Heap) (locs : List Loc) (ls : Array Slot), GH D (gA (mAs h) sz) (mAs h) U.heap (WM ct h st) H locs → lv_has ls 10 [(0, .ref (h 0)), (1, .int a1), (2, .int a2), (4, .int x4), (5, .int x5), (6, .int x6), (7, .int x7)] → M_test_J144 (M_test_L32 (M_test_J184 a1 a2) a1 a2 n32) a1 a2 st x4 x5 x6 x7 y0 = some z → W p l e rm_M_test U m args below meth c H locs 0 0 (MQ below (GQi D (mAs h) (mAs h) (WM ct h z.1) sz z.2) args U 0 0 (gA (mAs h) sz)) (F0 m 144 ls [.int y0]) := by
        intro st x4 x5 x6 x7 y0 H locs ls hH hl hd
        unfold M_test_J144 at hd
        refine lv_istore (pc := 144) (lv' := [(9, .int y0), (0, .ref (h 0)), (1, .int a1), (2, .int a2), (4, .int x4), (5, .int x5), (6, .int x6), (7, .int x7)]) hx hb dX1_test_144 hl (by decide) rfl (fun ls hl => ?_)
        refine lv_iload (pc := 146) hx hb dX1_test_146 (lv_at hl 0 rfl) ?_
        refine lv_iload (pc := 148) hx hb dX1_test_148 (lv_at hl 6 rfl) ?_
        refine lv_icmp_ge (pc := 150) (tgt := 158) hx hb dX1_test_150 (by decide) (fun c25 => ?_) (fun c25 => ?_)
        · have hd := if_t c25 hd
          refine lv_iload (pc := 158) hx hb dX1_test_158 (lv_at hl 5 rfl) ?_
          exact h160 st x4 x6 x7 y0 x5 _ _ _ hH (lv_sub hl [1, 2, 3, 4, 6, 7, 0] rfl) hd
        · have hd := if_n c25 hd
          refine lv_iload (pc := 153) hx hb dX1_test_153 (lv_at hl 7 rfl) ?_
          refine lv_goto (pc := 155) (tgt := 160) hx hb dX1_test_155 (by decide) ?_
          exact h160 st x4 x6 x7 y0 x7 _ _ _ hH (lv_sub hl [1, 2, 3, 4, 6, 7, 0] rfl) hd
      have h118 : ∀ (st : MS) (x4 : Int32) (x5 : Int32) (x6 : Int32) (x7 : Int32) (x8 : Int32) (H : Heap) (locs : List Loc) (ls : Array Slot), GH D (gA (mAs h) sz) (mAs h) U.heap (WM ct h st) H locs → lv_has ls 10 [(0, .ref (h 0)), (1, .int a1), (2, .int a2), (4, .int x4), (5, .int x5), (6, .int x6), (7, .int x7), (8, .int x8)] → M_test_J118 (M_test_L32 (M_test_J184 a1 a2) a1 a2 n32) a1 a2 st x4 x5 x6 x7 x8 = some z → W p l e rm_M_test U m args below meth c H locs 0 0 (MQ below (GQi D (mAs h) (mAs h) (WM ct h z.1) sz z.2) args U 0 0 (gA (mAs h) sz)) (F0 m 118 ls []) := by
        intro st x4 x5 x6 x7 x8 H locs ls hH hl hd
        unfold M_test_J118 at hd
        refine lv_iload (pc := 118) hx hb dX1_test_118 (lv_at hl 7 rfl) ?_
        refine lv_iload (pc := 120) hx hb dX1_test_120 (lv_at hl 3 rfl) ?_
        obtain ⟨v22, hv22, hd⟩ := bs_bd hd
        refine call_M_bits (pc := 122) S hl q1158 hv22 ⟨Nat.le_of_ble_eq_true rfl, Nat.le_of_ble_eq_true rfl⟩ (Nat.le_of_ble_eq_true rfl) dX1_test_122 ⟨Nat.zero_le _, Nat.zero_le _⟩ ?_
        refine lv_iload (pc := 125) hx hb dX1_test_125 (lv_at hl 7 rfl) ?_
        refine lv_isub (pc := 127) hx hb dX1_test_127 ?_
        refine lv_icmp_le (pc := 128) (tgt := 136) hx hb dX1_test_128 (by decide) (fun c23 => ?_) (fun c23 => ?_)
        · have hd := if_t c23 hd
          refine lv_iload (pc := 136) hx hb dX1_test_136 (lv_at hl 3 rfl) ?_
          obtain ⟨v24, hv24, hd⟩ := bs_bd hd
          refine call_M_bits (pc := 138) S hl q1158 hv24 ⟨Nat.le_of_ble_eq_true rfl, Nat.le_of_ble_eq_true rfl⟩ (Nat.le_of_ble_eq_true rfl) dX1_test_138 ⟨Nat.zero_le _, Nat.zero_le _⟩ ?_
          refine lv_iload (pc := 141) hx hb dX1_test_141 (lv_at hl 7 rfl) ?_
          refine lv_isub (pc := 143) hx hb dX1_test_143 ?_
          exact h144 st x4 x5 x6 x7 (v24 - x8) _ _ _ hH (lv_sub hl [0, 1, 2, 3, 4, 5, 6] rfl) hd
        · have hd := if_n c23 hd
          refine lv_iload (pc := 131) hx hb dX1_test_131 (lv_at hl 7 rfl) ?_
          refine lv_goto (pc := 133) (tgt := 144) hx hb dX1_test_133 (by decide) ?_
          exact h144 st x4 x5 x6 x7 x8 _ _ _ hH (lv_sub hl [0, 1, 2, 3, 4, 5, 6] rfl) hd
      have h50 : ∀ (n50 : Nat) (st : MS) (x4 : Int32) (x5 : Int32) (x6 : Int32) (x7 : Int32) (x8 : Int32) (x9 : Int32) (H : Heap) (locs : List Loc) (ls : Array Slot), GH D (gA (mAs h) sz) (mAs h) U.heap (WM ct h st) H locs → lv_has ls 10 [(0, .ref (h 0)), (1, .int a1), (2, .int a2), (4, .int x4), (5, .int x5), (6, .int x6), (7, .int x7), (8, .int x8), (9, .int x9)] → M_test_L50 (M_test_J118 (M_test_L32 (M_test_J184 a1 a2) a1 a2 n32) a1 a2) a1 a2 n50 st x4 x5 x6 x7 x8 x9 = some z → W p l e rm_M_test U m args below meth c H locs 0 0 (MQ below (GQi D (mAs h) (mAs h) (WM ct h z.1) sz z.2) args U 0 0 (gA (mAs h) sz)) (F0 m 50 ls []) := by
        intro n50
        induction n50 with
        | zero =>
          intro st x4 x5 x6 x7 x8 x9 H locs ls hH hl hd
          rw [M_test_L50] at hd
          cases hd
        | succ n50 ih50 =>
          intro st x4 x5 x6 x7 x8 x9 H locs ls hH hl hd
          rw [M_test_L50] at hd
          refine lv_iload (pc := 50) hx hb dX1_test_50 (lv_at hl 8 rfl) ?_
          refine lv_bipush (v := (6 : Int32)) (pc := 52) hx hb dX1_test_52 (by decide) ?_
          refine lv_icmp_ge (pc := 54) (tgt := 118) hx hb dX1_test_54 (by decide) (fun c8 => ?_) (fun c8 => ?_)
          · have hd := if_t c8 hd
            exact h118 st x4 x5 x6 x7 x8 _ _ _ hH (lv_sub hl [0, 1, 2, 3, 4, 5, 6, 7] rfl) hd
          · have hd := if_n c8 hd
            refine lv_iload (pc := 57) hx hb dX1_test_57 (lv_at hl 7 rfl) ?_
            refine lv_iload (pc := 59) hx hb dX1_test_59 (lv_at hl 3 rfl) ?_
            refine lv_iload (pc := 61) hx hb dX1_test_61 (lv_at hl 8 rfl) ?_
            obtain ⟨v9, hv9, hd⟩ := bs_bd hd
            refine call_M_has (pc := 63) S hl q1075 hv9 ⟨Nat.le_of_ble_eq_true rfl, Nat.le_of_ble_eq_true rfl⟩ (Nat.le_of_ble_eq_true rfl) dX1_test_63 ⟨Nat.zero_le _, Nat.zero_le _⟩ ?_
            refine lv_if_eq (pc := 66) (tgt := 108) hx hb dX1_test_66 (by decide) (fun c10 => ?_) (fun c10 => ?_)
            · have hd := if_t c10 hd
              refine lv_iconst (v := (0 : Int32)) (pc := 108) hx hb dX1_test_108 (by decide) ?_
              refine lv_iadd (pc := 109) hx hb dX1_test_109 ?_
              obtain ⟨w11, ew11, hd⟩ := bs_let_spec hd
              refine lv_topE (pc := 110) ew11 ?_
              refine lv_istore (pc := 110) (lv' := [(8, .int w11), (0, .ref (h 0)), (1, .int a1), (2, .int a2), (4, .int x4), (5, .int x5), (6, .int x6), (7, .int x7), (9, .int x9)]) hx hb dX1_test_110 hl (by decide) rfl (fun ls hl => ?_)
              obtain ⟨w12, ew12, hd⟩ := bs_let_spec hd
              refine lv_iinc (pc := 112) (v := w12) (lv' := [(9, .int w12), (8, .int w11), (0, .ref (h 0)), (1, .int a1), (2, .int a2), (4, .int x4), (5, .int x5), (6, .int x6), (7, .int x7)]) hx hb dX1_test_112 hl (k := 8) rfl (by rw [ew12]; rfl) (by decide) rfl (fun ls hl => ?_)
              refine lv_goto (pc := 115) (tgt := 50) hx hb dX1_test_115 (by decide) ?_
              exact ih50 st x4 x5 x6 x7 w11 w12 _ _ _ hH (lv_sub hl [2, 3, 4, 5, 6, 7, 8, 1, 0] rfl) hd
            · have hd := if_n c10 hd
              refine lv_iload (pc := 69) hx hb dX1_test_69 (lv_at hl 8 rfl) ?_
              refine lv_aload_n (pc := 71) hx hb dX1_test_71 rfl (lv_at hl 0 rfl) ?_
              refine mg_now (pc := 72) S hK hH dX1_test_72 ?_
              refine lv_bipush (v := (7 : Int32)) (pc := 75) hx hb dX1_test_75 (by decide) ?_
              refine lv_iload_n (pc := 77) hx hb dX1_test_77 rfl (lv_at hl 1 rfl) ?_
              refine lv_iadd (pc := 78) hx hb dX1_test_78 ?_
              obtain ⟨v13, hv13, hd⟩ := bs_bd hd
              refine ml_now (pc := 79) S hK hH hv13 dX1_test_79 ?_
              refine lv_aload_n (pc := 80) hx hb dX1_test_80 rfl (lv_at hl 0 rfl) ?_
              refine mg_now (pc := 81) S hK hH dX1_test_81 ?_
              refine lv_bipush (v := (12 : Int32)) (pc := 84) hx hb dX1_test_84 (by decide) ?_
              refine lv_iload_n (pc := 86) hx hb dX1_test_86 rfl (lv_at hl 1 rfl) ?_
              refine lv_iadd (pc := 87) hx hb dX1_test_87 ?_
              obtain ⟨v14, hv14, hd⟩ := bs_bd hd
              refine ml_now (pc := 88) S hK hH hv14 dX1_test_88 ?_
              refine lv_aload_n (pc := 89) hx hb dX1_test_89 rfl (lv_at hl 0 rfl) ?_
              refine mg_now (pc := 90) S hK hH dX1_test_90 ?_
              refine lv_bipush (v := (70 : Int32)) (pc := 93) hx hb dX1_test_93 (by decide) ?_
              obtain ⟨v15, hv15, hd⟩ := bs_bd hd
              refine ml_now (pc := 95) S hK hH hv15 dX1_test_95 ?_
              refine lv_iload (pc := 96) hx hb dX1_test_96 (lv_at hl 6 rfl) ?_
              obtain ⟨v16, hv16, hd⟩ := bs_bd hd
              refine call_M_isWithin (pc := 98) S hl q1089 hv16 ⟨Nat.le_of_ble_eq_true rfl, Nat.le_of_ble_eq_true rfl⟩ (Nat.le_of_ble_eq_true rfl) dX1_test_98 ⟨Nat.zero_le _, Nat.zero_le _⟩ ?_
              refine lv_if_eq (pc := 101) (tgt := 108) hx hb dX1_test_101 (by decide) (fun c17 => ?_) (fun c17 => ?_)
              · have hd := if_t c17 hd
                refine lv_iconst (v := (0 : Int32)) (pc := 108) hx hb dX1_test_108 (by decide) ?_
                refine lv_iadd (pc := 109) hx hb dX1_test_109 ?_
                obtain ⟨w18, ew18, hd⟩ := bs_let_spec hd
                refine lv_topE (pc := 110) ew18 ?_
                refine lv_istore (pc := 110) (lv' := [(8, .int w18), (0, .ref (h 0)), (1, .int a1), (2, .int a2), (4, .int x4), (5, .int x5), (6, .int x6), (7, .int x7), (9, .int x9)]) hx hb dX1_test_110 hl (by decide) rfl (fun ls hl => ?_)
                obtain ⟨w19, ew19, hd⟩ := bs_let_spec hd
                refine lv_iinc (pc := 112) (v := w19) (lv' := [(9, .int w19), (8, .int w18), (0, .ref (h 0)), (1, .int a1), (2, .int a2), (4, .int x4), (5, .int x5), (6, .int x6), (7, .int x7)]) hx hb dX1_test_112 hl (k := 8) rfl (by rw [ew19]; rfl) (by decide) rfl (fun ls hl => ?_)
                refine lv_goto (pc := 115) (tgt := 50) hx hb dX1_test_115 (by decide) ?_
                exact ih50 st x4 x5 x6 x7 w18 w19 _ _ _ hH (lv_sub hl [2, 3, 4, 5, 6, 7, 8, 1, 0] rfl) hd
              · have hd := if_n c17 hd
                refine lv_iconst (v := (1 : Int32)) (pc := 104) hx hb dX1_test_104 (by decide) ?_
                refine lv_goto (pc := 105) (tgt := 109) hx hb dX1_test_105 (by decide) ?_
                refine lv_iadd (pc := 109) hx hb dX1_test_109 ?_
                obtain ⟨w20, ew20, hd⟩ := bs_let_spec hd
                refine lv_topE (pc := 110) ew20 ?_
                refine lv_istore (pc := 110) (lv' := [(8, .int w20), (0, .ref (h 0)), (1, .int a1), (2, .int a2), (4, .int x4), (5, .int x5), (6, .int x6), (7, .int x7), (9, .int x9)]) hx hb dX1_test_110 hl (by decide) rfl (fun ls hl => ?_)
                obtain ⟨w21, ew21, hd⟩ := bs_let_spec hd
                refine lv_iinc (pc := 112) (v := w21) (lv' := [(9, .int w21), (8, .int w20), (0, .ref (h 0)), (1, .int a1), (2, .int a2), (4, .int x4), (5, .int x5), (6, .int x6), (7, .int x7)]) hx hb dX1_test_112 hl (k := 8) rfl (by rw [ew21]; rfl) (by decide) rfl (fun ls hl => ?_)
                refine lv_goto (pc := 115) (tgt := 50) hx hb dX1_test_115 (by decide) ?_
                exact ih50 st x4 x5 x6 x7 w20 w21 _ _ _ hH (lv_sub hl [2, 3, 4, 5, 6, 7, 8, 1, 0] rfl) hd
      intro st x4 x5 x6 x7 H locs ls hH hl hd
      rw [M_test_L32] at hd
      refine lv_iload (pc := 32) hx hb dX1_test_32 (lv_at hl 6 rfl) ?_
      refine lv_bipush (v := (100 : Int32)) (pc := 34) hx hb dX1_test_34 (by decide) ?_
      refine lv_icmp_ge (pc := 36) (tgt := 184) hx hb dX1_test_36 (by decide) (fun c4 => ?_) (fun c4 => ?_)
      · have hd := if_t c4 hd
        exact h184 st x5 x6 _ _ _ hH (lv_sub hl [0, 1, 2, 4, 5] rfl) hd
      · have hd := if_n c4 hd
        refine lv_iload (pc := 39) hx hb dX1_test_39 (lv_at hl 3 rfl) ?_
        refine lv_if_eq (pc := 41) (tgt := 184) hx hb dX1_test_41 (by decide) (fun c5 => ?_) (fun c5 => ?_)
        · have hd := if_t c5 hd
          exact h184 st x5 x6 _ _ _ hH (lv_sub hl [0, 1, 2, 4, 5] rfl) hd
        · have hd := if_n c5 hd
          refine lv_iconst (v := (0 : Int32)) (pc := 44) hx hb dX1_test_44 (by decide) ?_
          refine lv_istore (pc := 45) (lv' := [(8, .int (0 : Int32)), (0, .ref (h 0)), (1, .int a1), (2, .int a2), (4, .int x4), (5, .int x5), (6, .int x6), (7, .int x7)]) hx hb dX1_test_45 hl (by decide) rfl (fun ls hl => ?_)
          refine lv_iconst (v := (0 : Int32)) (pc := 47) hx hb dX1_test_47 (by decide) ?_
          refine lv_istore (pc := 48) (lv' := [(9, .int (0 : Int32)), (8, .int (0 : Int32)), (0, .ref (h 0)), (1, .int a1), (2, .int a2), (4, .int x4), (5, .int x5), (6, .int x6), (7, .int x7)]) hx hb dX1_test_48 hl (by decide) rfl (fun ls hl => ?_)
          exact h50 bs_fu st x4 x5 x6 x7 (0 : Int32) (0 : Int32) _ _ _ hH (lv_sub hl [2, 3, 4, 5, 6, 7, 8, 1, 0] rfl) hd
  unfold M_test at hd
  refine lv_aload_n (pc := 0) hx hb dX1_test_0 rfl (lv_at hl 0 rfl) ?_
  refine lv_iload_n (pc := 1) hx hb dX1_test_1 rfl (lv_at hl 1 rfl) ?_
  refine lv_iload_n (pc := 2) hx hb dX1_test_2 rfl (lv_at hl 2 rfl) ?_
  obtain ⟨q1, hq1, hd⟩ := bs_bd hd
  refine call_M_refusesPairs (pc := 3) S hl hK hH q1240 hq1 ⟨Nat.le_of_ble_eq_true rfl, Nat.le_of_ble_eq_true rfl⟩ (Nat.le_of_ble_eq_true rfl) dX1_test_3 ⟨Nat.zero_le _, Nat.zero_le _⟩ (fun H locs hH => ?_)
  refine lv_istore_n (pc := 6) (lv' := [(3, .int q1.2), (0, .ref (h 0)), (1, .int a1), (2, .int a2)]) hx hb dX1_test_6 rfl hl (by decide) rfl (fun ls hl => ?_)
  refine lv_iload_n (pc := 7) hx hb dX1_test_7 rfl (lv_at hl 0 rfl) ?_
  refine lv_if_eq (pc := 8) (tgt := 13) hx hb dX1_test_8 (by decide) (fun c2 => ?_) (fun c2 => ?_)
  · have hd := if_t c2 hd
    refine lv_aload_n (pc := 13) hx hb dX1_test_13 rfl (lv_at hl 1 rfl) ?_
    refine lv_iload_n (pc := 14) hx hb dX1_test_14 rfl (lv_at hl 2 rfl) ?_
    refine lv_iload_n (pc := 15) hx hb dX1_test_15 rfl (lv_at hl 3 rfl) ?_
    obtain ⟨v3, hv3, hd⟩ := bs_bd hd
    refine call_M_kindsOf (pc := 16) S hl hK hH q1256 hv3 ⟨Nat.le_of_ble_eq_true rfl, Nat.le_of_ble_eq_true rfl⟩ (Nat.le_of_ble_eq_true rfl) dX1_test_16 ⟨Nat.zero_le _, Nat.zero_le _⟩ ?_
    refine lv_istore (pc := 19) (lv' := [(4, .int v3), (3, .int q1.2), (0, .ref (h 0)), (1, .int a1), (2, .int a2)]) hx hb dX1_test_19 hl (by decide) rfl (fun ls hl => ?_)
    refine lv_bipush (v := (-9 : Int32)) (pc := 21) hx hb dX1_test_21 (by decide) ?_
    refine lv_istore (pc := 23) (lv' := [(5, .int (-9 : Int32)), (4, .int v3), (3, .int q1.2), (0, .ref (h 0)), (1, .int a1), (2, .int a2)]) hx hb dX1_test_23 hl (by decide) rfl (fun ls hl => ?_)
    refine lv_ldc (pc := 25) (own := RX1) (v := (1000000 : Int32)) hx hb S.2.2.2.1 (S.2.2.2.2 _ q1222) dX1_test_25 ?_
    refine lv_istore (pc := 27) (lv' := [(6, .int (1000000 : Int32)), (5, .int (-9 : Int32)), (4, .int v3), (3, .int q1.2), (0, .ref (h 0)), (1, .int a1), (2, .int a2)]) hx hb dX1_test_27 hl (by decide) rfl (fun ls hl => ?_)
    refine lv_iconst (v := (0 : Int32)) (pc := 29) hx hb dX1_test_29 (by decide) ?_
    refine lv_istore (pc := 30) (lv' := [(7, .int (0 : Int32)), (6, .int (1000000 : Int32)), (5, .int (-9 : Int32)), (4, .int v3), (3, .int q1.2), (0, .ref (h 0)), (1, .int a1), (2, .int a2)]) hx hb dX1_test_30 hl (by decide) rfl (fun ls hl => ?_)
    exact h32 bs_fu q1.1 v3 (-9 : Int32) (1000000 : Int32) (0 : Int32) _ _ _ hH (lv_sub hl [5, 6, 7, 3, 2, 1, 0] rfl) hd
  · have hd := if_n c2 hd
    refine lv_iload_n (pc := 11) hx hb dX1_test_11 rfl (lv_at hl 0 rfl) ?_
    exact g_iret (WM ct h) hd S hr hlk hH dX1_test_12
section CR_M_test
variable {p : Program} {l : Launch} {e : Env} {R : Room} {s : State} {m : MethodId} {args : Array Value} {below : List Frame} {meth : Method} {c : Code} {H : Heap} {locs : List Loc} {cells slots : Nat} {Q : State → Prop}
variable {cc : ByteArray} {pc nL idx : Nat} {ls : Array Slot} {rest : List Value} {lv : List (Nat × Value)} {A : Nat → Prop} {H0 : Heap} {own : String}
theorem call_M_test {D : va_G} {ct : Nat → ClassId} {h : Nat → Nat} {st : MS} {a1 : Int32} {a2 : Int32} {z : (MS × Int32)} (S : CallFix p m c cc nL s args lw_all own) (hl : lv_has ls nL lv) (hK : va_K D clA (tysG ct) s) (hH : GH D A (mAs h) H0 (WM ct h st) H locs) (hlk : Cond.methodLink own idx yX1_test ∈ lw_all) (hv : M_test st a1 a2 = some z) (hR : 5 ≤ R.frames ∧ 129 ≤ R.locals) (hsum : (rest.map fun v => v.category).sum ≤ 8) (hdg : decode cc pc = .ok (.invokevirtual idx, 3)) (hf : cells ≤ R.cells ∧ slots ≤ R.slots)
    (k : ∀ (H1 : Heap) (locs1 : List Loc), GH D A (mAs h) H0 (WM ct h z.1) H1 locs1 → W p l e R s m args below meth c H1 locs1 cells slots Q (F0 m (pc + 3) ls (.int z.2 :: rest))) : W p l e R s m args below meth c H locs cells slots Q (F0 m pc ls (.int a2 :: .int a1 :: .ref (h 0) :: rest)) :=
  g_calli (av := [.int a1, .int a2]) S hl gE_0_ok trivial hK hH (met_M_test l D ct h H.size st a1 a2 z hv) (lw_V hlk q1261 q1262 q70 q1263) rfl rfl ⟨rfl, by decide, by decide, by show (parseMethodDescriptor yX1_test.desc).map (fun d => d.parameters.length) = some 2; decide +kernel⟩ hR (m_recv hK hH) (fun _ h => Or.inl h) rfl hsum hdg hf k
end CR_M_test
