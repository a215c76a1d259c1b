set_option maxRecDepth 100000
/-! CapCouncilModel.in (JJJ)Z -/
def M_in (a0 : Int64) (a2 : Int64) (a4 : Int64) : Option Int32 :=
  if (lg_cmp a0 a2) < 0 then
    (some (0 : Int32))
  else
    (if 0 < (lg_cmp a0 a4) then
      (some (0 : Int32))
    else
      (some (1 : Int32)))
def rm_M_in : Room := { frames := 0, cells := 0, slots := 0, locals := 0 }
set_option maxHeartbeats 4000000 in
set_option maxRecDepth 100000 in
theorem met_M_in (l : Launch) (a0 : Int64) (a2 : Int64) (a4 : Int64) (z : Int32) (hd : M_in a0 a2 a4 = some z) : Met l yX1_in (ws_ yX1_in cX1_in 6 (some .boolean)) rm_M_in (va_Pc [.long a0, .long a2, .long a4] (fun _ => True)) (vp_Si (fun r => r = z)) 0 0 (fun _ => False) := by
  refine p_met (cc := cX1_in) (maxL := 6) (ret := (some .boolean)) (by decide) (Nat.le_of_ble_eq_true rfl) ?_
  intro p e U m args below meth c ls S hr hlk hl
  have S : CallFix p m c cX1_in 6 U args lw_all RX1 := S
  have hx := S.1
  have hb := S.2.1
  have hl : lv_has ls 6 [(0, .long a0), (2, .long a2), (4, .long a4)] := hl
  unfold M_in at hd
  refine lv_lload_n (pc := 0) hx hb dX1_in_0 rfl (lv_at hl 0 rfl) ?_
  refine lv_lload_n (pc := 1) hx hb dX1_in_1 rfl (lv_at hl 1 rfl) ?_
  refine W.lcmp (pc := 2) hx hb dX1_in_2 ?_
  refine lv_if_lt (pc := 3) (tgt := 17) hx hb dX1_in_3 (by decide) (fun c1 => ?_) (fun c1 => ?_)
  · have hd := if_t c1 hd
    refine lv_iconst (v := (0 : Int32)) (pc := 17) hx hb dX1_in_17 (by decide) ?_
    exact r_zret rfl hd S hr hlk dX1_in_18
  · have hd := if_n c1 hd
    refine lv_lload_n (pc := 6) hx hb dX1_in_6 rfl (lv_at hl 0 rfl) ?_
    refine lv_lload (pc := 7) hx hb dX1_in_7 (lv_at hl 2 rfl) ?_
    refine W.lcmp (pc := 9) hx hb dX1_in_9 ?_
    refine lv_if_gt (pc := 10) (tgt := 17) hx hb dX1_in_10 (by decide) (fun c2 => ?_) (fun c2 => ?_)
    · have hd := if_t c2 hd
      refine lv_iconst (v := (0 : Int32)) (pc := 17) hx hb dX1_in_17 (by decide) ?_
      exact r_zret rfl hd S hr hlk dX1_in_18
    · have hd := if_n c2 hd
      refine lv_iconst (v := (1 : Int32)) (pc := 13) hx hb dX1_in_13 (by decide) ?_
      refine lv_goto (pc := 14) (tgt := 18) hx hb dX1_in_14 (by decide) ?_
      exact r_zret rfl hd S hr hlk dX1_in_18
section CR_M_in
variable {p : Program} {l : Launch} {e : Env} {R : Room} {s : State} {m : MethodId} {args : Array Value} {below : List Frame} {meth : Method} {c : Code} {H : Heap} {locs : List Loc} {cells slots : Nat} {Q : State → Prop}
variable {cc : ByteArray} {pc nL idx : Nat} {ls : Array Slot} {rest : List Value} {lv : List (Nat × Value)} {A : Nat → Prop} {H0 : Heap} {own : String}
theorem call_M_in {a0 : Int64} {a2 : Int64} {a4 : Int64} {z : Int32} (S : CallFix p m c cc nL s args lw_all own) (hl : lv_has ls nL lv) (hlk : Cond.methodLink own idx yX1_in ∈ lw_all) (hv : M_in a0 a2 a4 = some z) (hR : 1 ≤ R.frames ∧ 25 ≤ R.locals) (hsum : (rest.map fun v => v.category).sum ≤ 8) (hdg : decode cc pc = .ok (.invokestatic idx, 3)) (hf : cells ≤ R.cells ∧ slots ≤ R.slots)
    (k : W p l e R s m args below meth c H locs cells slots Q (F0 m (pc + 3) ls (.int z :: rest))) : W p l e R s m args below meth c H locs cells slots Q (F0 m pc ls (.long a4 :: .long a2 :: .long a0 :: rest)) :=
  p_calli (av := [.long a0, .long a2, .long a4]) S hl (met_M_in l a0 a2 a4 z hv) (lw_S hlk q975 q70 q976) rfl rfl ⟨by decide, by decide, by show (parseMethodDescriptor yX1_in.desc).map (fun d => d.parameters.length) = some 3; decide +kernel⟩ hR rfl hsum hdg hf k
end CR_M_in
/-! CapCouncilModel.isRow (I)Z -/
def M_isRow (a0 : Int32) : Option Int32 :=
  (M_in (a0.toInt64) (0 : Int64) (5 : Int64)).bind fun v1 =>
  bs_gb v1 (some v1)
def rm_M_isRow : Room := { frames := 1, cells := 0, slots := 0, locals := 25 }
set_option maxHeartbeats 4000000 in
set_option maxRecDepth 100000 in
theorem met_M_isRow (l : Launch) (a0 : Int32) (z : Int32) (hd : M_isRow a0 = some z) : Met l yX1_isRow (ws_ yX1_isRow cX1_isRow 1 (some .boolean)) rm_M_isRow (va_Pc [.int a0] (fun _ => True)) (vp_Si (fun r => r = z)) 0 0 (fun _ => False) := by
  refine p_met (cc := cX1_isRow) (maxL := 1) (ret := (some .boolean)) (by decide) (Nat.le_of_ble_eq_true rfl) ?_
  intro p e U m args below meth c ls S hr hlk hl
  have S : CallFix p m c cX1_isRow 1 U args lw_all RX1 := S
  have hx := S.1
  have hb := S.2.1
  have hl : lv_has ls 1 [(0, .int a0)] := hl
  unfold M_isRow at hd
  refine lv_iload_n (pc := 0) hx hb dX1_isRow_0 rfl (lv_at hl 0 rfl) ?_
  refine lv_i2l (pc := 1) hx hb dX1_isRow_1 rfl ?_
  refine lv_lconst (v := (0 : Int64)) (pc := 2) hx hb dX1_isRow_2 (by decide) ?_
  refine lv_ldc2 (pc := 3) (own := RX1) (v := (5 : Int64)) hx hb S.2.2.2.1 (S.2.2.2.2 _ q973) dX1_isRow_3 ?_
  obtain ⟨v1, hv1, hd⟩ := bs_bd hd
  refine call_M_in (pc := 6) S hl q974 hv1 ⟨Nat.le_of_ble_eq_true rfl, Nat.le_of_ble_eq_true rfl⟩ (Nat.le_of_ble_eq_true rfl) dX1_isRow_6 ⟨Nat.zero_le _, Nat.zero_le _⟩ ?_
  obtain ⟨hn2, hd⟩ := bs_gb_spec hd
  exact r_zret hn2 hd S hr hlk dX1_isRow_9
section CR_M_isRow
variable {p : Program} {l : Launch} {e : Env} {R : Room} {s : State} {m : MethodId} {args : Array Value} {below : List Frame} {meth : Method} {c : Code} {H : Heap} {locs : List Loc} {cells slots : Nat} {Q : State → Prop}
variable {cc : ByteArray} {pc nL idx : Nat} {ls : Array Slot} {rest : List Value} {lv : List (Nat × Value)} {A : Nat → Prop} {H0 : Heap} {own : String}
theorem call_M_isRow {a0 : Int32} {z : Int32} (S : CallFix p m c cc nL s args lw_all own) (hl : lv_has ls nL lv) (hlk : Cond.methodLink own idx yX1_isRow ∈ lw_all) (hv : M_isRow a0 = some z) (hR : 2 ≤ R.frames ∧ 45 ≤ R.locals) (hsum : (rest.map fun v => v.category).sum ≤ 8) (hdg : decode cc pc = .ok (.invokestatic idx, 3)) (hf : cells ≤ R.cells ∧ slots ≤ R.slots)
    (k : W p l e R s m args below meth c H locs cells slots Q (F0 m (pc + 3) ls (.int z :: rest))) : W p l e R s m args below meth c H locs cells slots Q (F0 m pc ls (.int a0 :: rest)) :=
  p_calli (av := [.int a0]) S hl (met_M_isRow l a0 z hv) (lw_S hlk q971 q70 q972) rfl rfl ⟨by decide, by decide, by show (parseMethodDescriptor yX1_isRow.desc).map (fun d => d.parameters.length) = some 1; decide +kernel⟩ hR rfl hsum hdg hf k
end CR_M_isRow
/-! CapCouncilModel.finds (I)I -/
def M_finds (st : MS) (a1 : Int32) : Option (MS × Int32) :=
  bs_let (smi st 0 a1) fun s1 =>
  (bs_ld (ma s1 7) 6 a1).bind fun v2 =>
  (mast s1 7 6 a1 (v2 + (1 : Int32))).bind fun s3 =>
  some (s3, (-3 : Int32))
def rm_M_finds : Room := { frames := 0, cells := 0, slots := 0, locals := 0 }
set_option maxHeartbeats 4000000 in
set_option maxRecDepth 100000 in
theorem met_M_finds (l : Launch) (D : va_G) (ct : Nat → ClassId) (h : Nat → Nat) (sz : Nat) (st : MS) (a1 : Int32) (z : (MS × Int32)) (hd : M_finds st a1 = some z) : Met l yX1_finds (ws_ yX1_finds cX1_finds 2 (some .int)) rm_M_finds (GPre gE_0 D ct (mAs h) (WM ct h st) sz [.ref (h 0), .int a1]) (GQi D (mAs h) (mAs h) (WM ct h z.1) sz z.2) 0 0 (gA (mAs h) sz) := by
  refine g_met (cc := cX1_finds) (maxL := 2) (ret := (some .int)) (by decide) (Nat.le_of_ble_eq_true rfl) ?_
  intro p e U m args below meth c ls S hr hlk hK hH hE hsz hl
  have S : CallFix p m c cX1_finds 2 U args lw_all RX1 := S
  have hx := S.1
  have hb := S.2.1
  have hl : lv_has ls 2 [(0, .ref (h 0)), (1, .int a1)] := hl
  unfold M_finds at hd
  refine lv_aload_n (pc := 0) hx hb dX1_finds_0 rfl (lv_at hl 0 rfl) ?_
  refine lv_iload_n (pc := 1) hx hb dX1_finds_1 rfl (lv_at hl 1 rfl) ?_
  obtain ⟨s1, es1, hd⟩ := bs_let_spec hd
  refine mp_latest (pc := 2) S hK hH dX1_finds_2 es1 (fun H locs hH => ?_)
  refine lv_aload_n (pc := 5) hx hb dX1_finds_5 rfl (lv_at hl 0 rfl) ?_
  refine mg_found (pc := 6) S hK hH dX1_finds_6 ?_
  refine lv_iload_n (pc := 9) hx hb dX1_finds_9 rfl (lv_at hl 1 rfl) ?_
  refine lv_dup2_11 (pc := 10) hx hb dX1_finds_10 rfl rfl ?_
  obtain ⟨v2, hv2, hd⟩ := bs_bd hd
  refine ml_found (pc := 11) S hK hH hv2 dX1_finds_11 ?_
  refine lv_iconst (v := (1 : Int32)) (pc := 12) hx hb dX1_finds_12 (by decide) ?_
  refine lv_iadd (pc := 13) hx hb dX1_finds_13 ?_
  obtain ⟨s3, hs3, hd⟩ := bs_bd hd
  refine ms_found (pc := 14) S hK hH hs3 dX1_finds_14 (fun H locs hH => ?_)
  refine lv_bipush (v := (-3 : Int32)) (pc := 15) hx hb dX1_finds_15 (by decide) ?_
  exact g_iret (WM ct h) hd S hr hlk hH dX1_finds_17
section CR_M_finds
variable {p : Program} {l : Launch} {e : Env} {R : Room} {s : State} {m : MethodId} {args : Array Value} {below : List Frame} {meth : Method} {c : Code} {H : Heap} {locs : List Loc} {cells slots : Nat} {Q : State → Prop}
variable {cc : ByteArray} {pc nL idx : Nat} {ls : Array Slot} {rest : List Value} {lv : List (Nat × Value)} {A : Nat → Prop} {H0 : Heap} {own : String}
theorem call_M_finds {D : va_G} {ct : Nat → ClassId} {h : Nat → Nat} {st : MS} {a1 : Int32} {z : (MS × Int32)} (S : CallFix p m c cc nL s args lw_all own) (hl : lv_has ls nL lv) (hK : va_K D clA (tysG ct) s) (hH : GH D A (mAs h) H0 (WM ct h st) H locs) (hlk : Cond.methodLink own idx yX1_finds ∈ lw_all) (hv : M_finds st a1 = some z) (hR : 1 ≤ R.frames ∧ 21 ≤ R.locals) (hsum : (rest.map fun v => v.category).sum ≤ 8) (hdg : decode cc pc = .ok (.invokevirtual idx, 3)) (hf : cells ≤ R.cells ∧ slots ≤ R.slots)
    (k : ∀ (H1 : Heap) (locs1 : List Loc), GH D A (mAs h) H0 (WM ct h z.1) H1 locs1 → W p l e R s m args below meth c H1 locs1 cells slots Q (F0 m (pc + 3) ls (.int z.2 :: rest))) : W p l e R s m args below meth c H locs cells slots Q (F0 m pc ls (.int a1 :: .ref (h 0) :: rest)) :=
  g_calli (av := [.int a1]) S hl gE_0_ok trivial hK hH (met_M_finds l D ct h H.size st a1 z hv) (lw_V hlk q979 qs36 q70 q980) rfl rfl ⟨rfl, by decide, by decide, by show (parseMethodDescriptor yX1_finds.desc).map (fun d => d.parameters.length) = some 1; decide +kernel⟩ hR (m_recv hK hH) (fun _ h => Or.inl h) rfl hsum hdg hf k
end CR_M_finds
/-! CapCouncilModel.row (II)I -/
def M_row_L34 (a1 : Int32) (a2 : Int32) : Nat → MS → Int32 → Option (MS × Int32)
  | 0, _, _ => none
  | n + 1, st, x3 =>
    if a2 ≤ x3 then
      (some (st, a2))
    else
      ((mast st 3 240 (((40 : Int32) * a1) + x3) (0 : Int32)).bind fun s8 =>
      bs_let (x3 + (1 : Int32)) fun w9 =>
      M_row_L34 a1 a2 n s8 w9)
def M_row (st : MS) (a1 : Int32) (a2 : Int32) : Option (MS × Int32) :=
  (M_isRow a1).bind fun v1 =>
  if v1 = 0 then
    (some (st, (-1 : Int32)))
  else
    (if a2 ≤ (40 : Int32) then
      (if 0 ≤ a2 then
        ((mast st 4 6 a1 a2).bind fun s5 =>
        M_row_L34 a1 a2 bs_fu s5 (0 : Int32))
      else
        ((M_finds st (5 : Int32)).bind fun q6 =>
        some (q6.1, q6.2)))
    else
      (some (st, (-1 : Int32))))
def rm_M_row : Room := { frames := 2, cells := 0, slots := 0, locals := 45 }
set_option maxHeartbeats 4000000 in
set_option maxRecDepth 100000 in
theorem met_M_row (l : Launch) (D : va_G) (ct : Nat → ClassId) (h : Nat → Nat) (sz : Nat) (st : MS) (a1 : Int32) (a2 : Int32) (z : (MS × Int32)) (hd : M_row st a1 a2 = some z) : Met l yX1_row (ws_ yX1_row cX1_row 4 (some .int)) rm_M_row (GPre gE_0 D ct (mAs h) (WM ct h st) sz [.ref (h 0), .int a1, .int a2]) (GQi D (mAs h) (mAs h) (WM ct h z.1) sz z.2) 0 0 (gA (mAs h) sz) := by
  refine g_met (cc := cX1_row) (maxL := 4) (ret := (some .int)) (by decide) (Nat.le_of_ble_eq_true rfl) ?_
  intro p e U m args below meth c ls S hr hlk hK hH hE hsz hl
  have S : CallFix p m c cX1_row 4 U args lw_all RX1 := S
  have hx := S.1
  have hb := S.2.1
  have hl : lv_has ls 4 [(0, .ref (h 0)), (1, .int a1), (2, .int a2)] := hl
  have h34 : ∀ (n34 : Nat) (st : MS) (x3 : Int32) (H : Heap) (locs : List Loc) (ls : Array Slot), GH D (gA (mAs h) sz) (mAs h) U.heap (WM ct h st) H locs → lv_has ls 4 [(0, .ref (h 0)), (1, .int a1), (2, .int a2), (3, .int x3)] → M_row_L34 a1 a2 n34 st x3 = some z → W p l e rm_M_row U m args below meth c H locs 0 0 (MQ below (GQi D (mAs h) (mAs h) (WM ct h z.1) sz z.2) args U 0 0 (gA (mAs h) sz)) (F0 m 34 ls []) := by
    intro n34
    induction n34 with
    | zero =>
      intro st x3 H locs ls hH hl hd
      rw [M_row_L34] at hd
      cases hd
    | succ n34 ih34 =>
      intro st x3 H locs ls hH hl hd
      rw [M_row_L34] at hd
      refine lv_iload_n (pc := 34) hx hb dX1_row_34 rfl (lv_at hl 3 rfl) ?_
      refine lv_iload_n (pc := 35) hx hb dX1_row_35 rfl (lv_at hl 2 rfl) ?_
      refine lv_icmp_ge (pc := 36) (tgt := 57) hx hb dX1_row_36 (by decide) (fun c7 => ?_) (fun c7 => ?_)
      · have hd := if_t c7 hd
        refine lv_iload_n (pc := 57) hx hb dX1_row_57 rfl (lv_at hl 2 rfl) ?_
        exact g_iret (WM ct h) hd S hr hlk hH dX1_row_58
      · have hd := if_n c7 hd
        refine lv_aload_n (pc := 39) hx hb dX1_row_39 rfl (lv_at hl 0 rfl) ?_
        refine mg_rows (pc := 40) S hK hH dX1_row_40 ?_
        refine lv_bipush (v := (40 : Int32)) (pc := 43) hx hb dX1_row_43 (by decide) ?_
        refine lv_iload_n (pc := 45) hx hb dX1_row_45 rfl (lv_at hl 1 rfl) ?_
        refine lv_imul (pc := 46) hx hb dX1_row_46 ?_
        refine lv_iload_n (pc := 47) hx hb dX1_row_47 rfl (lv_at hl 3 rfl) ?_
        refine lv_iadd (pc := 48) hx hb dX1_row_48 ?_
        refine lv_iconst (v := (0 : Int32)) (pc := 49) hx hb dX1_row_49 (by decide) ?_
        obtain ⟨s8, hs8, hd⟩ := bs_bd hd
        refine ms_rows (pc := 50) S hK hH hs8 dX1_row_50 (fun H locs hH => ?_)
        obtain ⟨w9, ew9, hd⟩ := bs_let_spec hd
        refine lv_iinc (pc := 51) (v := w9) (lv' := [(3, .int w9), (0, .ref (h 0)), (1, .int a1), (2, .int a2)]) hx hb dX1_row_51 hl (k := 3) rfl (by rw [ew9]; rfl) (by decide) rfl (fun ls hl => ?_)
        refine lv_goto (pc := 54) (tgt := 34) hx hb dX1_row_54 (by decide) ?_
        exact ih34 s8 w9 _ _ _ hH (lv_sub hl [1, 2, 3, 0] rfl) hd
  unfold M_row at hd
  refine lv_iload_n (pc := 0) hx hb dX1_row_0 rfl (lv_at hl 1 rfl) ?_
  obtain ⟨v1, hv1, hd⟩ := bs_bd hd
  refine call_M_isRow (pc := 1) S hl q970 hv1 ⟨Nat.le_of_ble_eq_true rfl, Nat.le_of_ble_eq_true rfl⟩ (Nat.le_of_ble_eq_true rfl) dX1_row_1 ⟨Nat.zero_le _, Nat.zero_le _⟩ ?_
  refine lv_if_eq (pc := 4) (tgt := 13) hx hb dX1_row_4 (by decide) (fun c2 => ?_) (fun c2 => ?_)
  · have hd := if_t c2 hd
    refine lv_iconst (v := (-1 : Int32)) (pc := 13) hx hb dX1_row_13 (by decide) ?_
    exact g_iret (WM ct h) hd S hr hlk hH dX1_row_14
  · have hd := if_n c2 hd
    refine lv_iload_n (pc := 7) hx hb dX1_row_7 rfl (lv_at hl 2 rfl) ?_
    refine lv_bipush (v := (40 : Int32)) (pc := 8) hx hb dX1_row_8 (by decide) ?_
    refine lv_icmp_le (pc := 10) (tgt := 15) hx hb dX1_row_10 (by decide) (fun c3 => ?_) (fun c3 => ?_)
    · have hd := if_t c3 hd
      refine lv_iload_n (pc := 15) hx hb dX1_row_15 rfl (lv_at hl 2 rfl) ?_
      refine lv_if_ge (pc := 16) (tgt := 25) hx hb dX1_row_16 (by decide) (fun c4 => ?_) (fun c4 => ?_)
      · have hd := if_t c4 hd
        refine lv_aload_n (pc := 25) hx hb dX1_row_25 rfl (lv_at hl 0 rfl) ?_
        refine mg_rowLong (pc := 26) S hK hH dX1_row_26 ?_
        refine lv_iload_n (pc := 29) hx hb dX1_row_29 rfl (lv_at hl 1 rfl) ?_
        refine lv_iload_n (pc := 30) hx hb dX1_row_30 rfl (lv_at hl 2 rfl) ?_
        obtain ⟨s5, hs5, hd⟩ := bs_bd hd
        refine ms_rowLong (pc := 31) S hK hH hs5 dX1_row_31 (fun H locs hH => ?_)
        refine lv_iconst (v := (0 : Int32)) (pc := 32) hx hb dX1_row_32 (by decide) ?_
        refine lv_istore_n (pc := 33) (lv' := [(3, .int (0 : Int32)), (0, .ref (h 0)), (1, .int a1), (2, .int a2)]) hx hb dX1_row_33 rfl hl (by decide) rfl (fun ls hl => ?_)
        exact h34 bs_fu s5 (0 : Int32) _ _ _ hH (lv_sub hl [1, 2, 3, 0] rfl) hd
      · have hd := if_n c4 hd
        refine lv_aload_n (pc := 19) hx hb dX1_row_19 rfl (lv_at hl 0 rfl) ?_
        refine lv_iconst (v := (5 : Int32)) (pc := 20) hx hb dX1_row_20 (by decide) ?_
        obtain ⟨q6, hq6, hd⟩ := bs_bd hd
        refine call_M_finds (pc := 21) S hl hK hH q977 hq6 ⟨Nat.le_of_ble_eq_true rfl, Nat.le_of_ble_eq_true rfl⟩ (Nat.le_of_ble_eq_true rfl) dX1_row_21 ⟨Nat.zero_le _, Nat.zero_le _⟩ (fun H locs hH => ?_)
        exact g_iret (WM ct h) hd S hr hlk hH dX1_row_24
    · have hd := if_n c3 hd
      refine lv_iconst (v := (-1 : Int32)) (pc := 13) hx hb dX1_row_13 (by decide) ?_
      exact g_iret (WM ct h) hd S hr hlk hH dX1_row_14
section CR_M_row
variable {p : Program} {l : Launch} {e : Env} {R : Room} {s : State} {m : MethodId} {args : Array Value} {below : List Frame} {meth : Method} {c : Code} {H : Heap} {locs : List Loc} {cells slots : Nat} {Q : State → Prop}
variable {cc : ByteArray} {pc nL idx : Nat} {ls : Array Slot} {rest : List Value} {lv : List (Nat × Value)} {A : Nat → Prop} {H0 : Heap} {own : String}
theorem call_M_row {D : va_G} {ct : Nat → ClassId} {h : Nat → Nat} {st : MS} {a1 : Int32} {a2 : Int32} {z : (MS × Int32)} (S : CallFix p m c cc nL s args lw_all own) (hl : lv_has ls nL lv) (hK : va_K D clA (tysG ct) s) (hH : GH D A (mAs h) H0 (WM ct h st) H locs) (hlk : Cond.methodLink own idx yX1_row ∈ lw_all) (hv : M_row st a1 a2 = some z) (hR : 3 ≤ R.frames ∧ 68 ≤ R.locals) (hsum : (rest.map fun v => v.category).sum ≤ 8) (hdg : decode cc pc = .ok (.invokevirtual idx, 3)) (hf : cells ≤ R.cells ∧ slots ≤ R.slots)
    (k : ∀ (H1 : Heap) (locs1 : List Loc), GH D A (mAs h) H0 (WM ct h z.1) H1 locs1 → W p l e R s m args below meth c H1 locs1 cells slots Q (F0 m (pc + 3) ls (.int z.2 :: rest))) : W p l e R s m args below meth c H locs cells slots Q (F0 m pc ls (.int a2 :: .int a1 :: .ref (h 0) :: rest)) :=
  g_calli (av := [.int a1, .int a2]) S hl gE_0_ok trivial hK hH (met_M_row l D ct h H.size st a1 a2 z hv) (lw_V hlk q967 q968 q70 q969) rfl rfl ⟨rfl, by decide, by decide, by show (parseMethodDescriptor yX1_row.desc).map (fun d => d.parameters.length) = some 2; decide +kernel⟩ hR (m_recv hK hH) (fun _ h => Or.inl h) rfl hsum hdg hf k
end CR_M_row
/-! CapCouncilModel.asks (I)I -/
def M_asks (st : MS) (a1 : Int32) : Option (MS × Int32) :=
  bs_let (smi st 1 a1) fun s1 =>
  some (s1, (1 : Int32))
def rm_M_asks : Room := { frames := 0, cells := 0, slots := 0, locals := 0 }
set_option maxHeartbeats 4000000 in
set_option maxRecDepth 100000 in
theorem met_M_asks (l : Launch) (D : va_G) (ct : Nat → ClassId) (h : Nat → Nat) (sz : Nat) (st : MS) (a1 : Int32) (z : (MS × Int32)) (hd : M_asks st a1 = some z) : Met l yX1_asks (ws_ yX1_asks cX1_asks 2 (some .int)) rm_M_asks (GPre gE_0 D ct (mAs h) (WM ct h st) sz [.ref (h 0), .int a1]) (GQi D (mAs h) (mAs h) (WM ct h z.1) sz z.2) 0 0 (gA (mAs h) sz) := by
  refine g_met (cc := cX1_asks) (maxL := 2) (ret := (some .int)) (by decide) (Nat.le_of_ble_eq_true rfl) ?_
  intro p e U m args below meth c ls S hr hlk hK hH hE hsz hl
  have S : CallFix p m c cX1_asks 2 U args lw_all RX1 := S
  have hx := S.1
  have hb := S.2.1
  have hl : lv_has ls 2 [(0, .ref (h 0)), (1, .int a1)] := hl
  unfold M_asks at hd
  refine lv_aload_n (pc := 0) hx hb dX1_asks_0 rfl (lv_at hl 0 rfl) ?_
  refine lv_iload_n (pc := 1) hx hb dX1_asks_1 rfl (lv_at hl 1 rfl) ?_
  obtain ⟨s1, es1, hd⟩ := bs_let_spec hd
  refine mp_askedIs (pc := 2) S hK hH dX1_asks_2 es1 (fun H locs hH => ?_)
  refine lv_iconst (v := (1 : Int32)) (pc := 5) hx hb dX1_asks_5 (by decide) ?_
  exact g_iret (WM ct h) hd S hr hlk hH dX1_asks_6
section CR_M_asks
variable {p : Program} {l : Launch} {e : Env} {R : Room} {s : State} {m : MethodId} {args : Array Value} {below : List Frame} {meth : Method} {c : Code} {H : Heap} {locs : List Loc} {cells slots : Nat} {Q : State → Prop}
variable {cc : ByteArray} {pc nL idx : Nat} {ls : Array Slot} {rest : List Value} {lv : List (Nat × Value)} {A : Nat → Prop} {H0 : Heap} {own : String}
theorem call_M_asks {D : va_G} {ct : Nat → ClassId} {h : Nat → Nat} {st : MS} {a1 : Int32} {z : (MS × Int32)} (S : CallFix p m c cc nL s args lw_all own) (hl : lv_has ls nL lv) (hK : va_K D clA (tysG ct) s) (hH : GH D A (mAs h) H0 (WM ct h st) H locs) (hlk : Cond.methodLink own idx yX1_asks ∈ lw_all) (hv : M_asks st a1 = some z) (hR : 1 ≤ R.frames ∧ 21 ≤ R.locals) (hsum : (rest.map fun v => v.category).sum ≤ 8) (hdg : decode cc pc = .ok (.invokevirtual idx, 3)) (hf : cells ≤ R.cells ∧ slots ≤ R.slots)
    (k : ∀ (H1 : Heap) (locs1 : List Loc), GH D A (mAs h) H0 (WM ct h z.1) H1 locs1 → W p l e R s m args below meth c H1 locs1 cells slots Q (F0 m (pc + 3) ls (.int z.2 :: rest))) : W p l e R s m args below meth c H locs cells slots Q (F0 m pc ls (.int a1 :: .ref (h 0) :: rest)) :=
  g_calli (av := [.int a1]) S hl gE_0_ok trivial hK hH (met_M_asks l D ct h H.size st a1 z hv) (lw_V hlk q991 qs37 q70 q992) rfl rfl ⟨rfl, by decide, by decide, by show (parseMethodDescriptor yX1_asks.desc).map (fun d => d.parameters.length) = some 1; decide +kernel⟩ hR (m_recv hK hH) (fun _ h => Or.inl h) rfl hsum hdg hf k
end CR_M_asks
/-! CapCouncilModel.at (II)I -/
def M_at (st : MS) (a1 : Int32) (a2 : Int32) : Option (MS × Int32) :=
  (M_isRow a1).bind fun v1 =>
  if v1 = 0 then
    (some (st, (-1 : Int32)))
  else
    ((bs_ld (ma st 4) 6 a1).bind fun v3 =>
    if 0 ≤ v3 then
      ((bs_ld (ma st 4) 6 a1).bind fun v5 =>
      (M_in (a2.toInt64) (0 : Int64) (((v5 - (1 : Int32))).toInt64)).bind fun v6 =>
      if v6 = 0 then
        ((M_finds st (2 : Int32)).bind fun q8 =>
        some (q8.1, q8.2))
      else
        ((bs_ld (ma st 3) 240 (((40 : Int32) * a1) + a2)).bind fun v9 =>
        (M_asks st v9).bind fun q10 =>
        some (q10.1, q10.2)))
    else
      ((M_finds st (1 : Int32)).bind fun q11 =>
      some (q11.1, q11.2)))
def rm_M_at : Room := { frames := 2, cells := 0, slots := 0, locals := 45 }
set_option maxHeartbeats 4000000 in
set_option maxRecDepth 100000 in
theorem met_M_at (l : Launch) (D : va_G) (ct : Nat → ClassId) (h : Nat → Nat) (sz : Nat) (st : MS) (a1 : Int32) (a2 : Int32) (z : (MS × Int32)) (hd : M_at st a1 a2 = some z) : Met l yX1_at (ws_ yX1_at cX1_at 3 (some .int)) rm_M_at (GPre gE_0 D ct (mAs h) (WM ct h st) sz [.ref (h 0), .int a1, .int a2]) (GQi D (mAs h) (mAs h) (WM ct h z.1) sz z.2) 0 0 (gA (mAs h) sz) := by
  refine g_met (cc := cX1_at) (maxL := 3) (ret := (some .int)) (by decide) (Nat.le_of_ble_eq_true rfl) ?_
  intro p e U m args below meth c ls S hr hlk hK hH hE hsz hl
  have S : CallFix p m c cX1_at 3 U args lw_all RX1 := S
  have hx := S.1
  have hb := S.2.1
  have hl : lv_has ls 3 [(0, .ref (h 0)), (1, .int a1), (2, .int a2)] := hl
  unfold M_at at hd
  refine lv_iload_n (pc := 0) hx hb dX1_at_0 rfl (lv_at hl 1 rfl) ?_
  obtain ⟨v1, hv1, hd⟩ := bs_bd hd
  refine call_M_isRow (pc := 1) S hl q970 hv1 ⟨Nat.le_of_ble_eq_true rfl, Nat.le_of_ble_eq_true rfl⟩ (Nat.le_of_ble_eq_true rfl) dX1_at_1 ⟨Nat.zero_le _, Nat.zero_le _⟩ ?_
  refine lv_if_ne (pc := 4) (tgt := 9) hx hb dX1_at_4 (by decide) (fun c2 => ?_) (fun c2 => ?_)
  · have hd := if_n c2 hd
    refine lv_aload_n (pc := 9) hx hb dX1_at_9 rfl (lv_at hl 0 rfl) ?_
    refine mg_rowLong (pc := 10) S hK hH dX1_at_10 ?_
    refine lv_iload_n (pc := 13) hx hb dX1_at_13 rfl (lv_at hl 1 rfl) ?_
    obtain ⟨v3, hv3, hd⟩ := bs_bd hd
    refine ml_rowLong (pc := 14) S hK hH hv3 dX1_at_14 ?_
    refine lv_if_ge (pc := 15) (tgt := 24) hx hb dX1_at_15 (by decide) (fun c4 => ?_) (fun c4 => ?_)
    · have hd := if_t c4 hd
      refine lv_iload_n (pc := 24) hx hb dX1_at_24 rfl (lv_at hl 2 rfl) ?_
      refine lv_i2l (pc := 25) hx hb dX1_at_25 rfl ?_
      refine lv_lconst (v := (0 : Int64)) (pc := 26) hx hb dX1_at_26 (by decide) ?_
      refine lv_aload_n (pc := 27) hx hb dX1_at_27 rfl (lv_at hl 0 rfl) ?_
      refine mg_rowLong (pc := 28) S hK hH dX1_at_28 ?_
      refine lv_iload_n (pc := 31) hx hb dX1_at_31 rfl (lv_at hl 1 rfl) ?_
      obtain ⟨v5, hv5, hd⟩ := bs_bd hd
      refine ml_rowLong (pc := 32) S hK hH hv5 dX1_at_32 ?_
      refine lv_iconst (v := (1 : Int32)) (pc := 33) hx hb dX1_at_33 (by decide) ?_
      refine lv_isub (pc := 34) hx hb dX1_at_34 ?_
      refine lv_i2l (pc := 35) hx hb dX1_at_35 rfl ?_
      obtain ⟨v6, hv6, hd⟩ := bs_bd hd
      refine call_M_in (pc := 36) S hl q974 hv6 ⟨Nat.le_of_ble_eq_true rfl, Nat.le_of_ble_eq_true rfl⟩ (Nat.le_of_ble_eq_true rfl) dX1_at_36 ⟨Nat.zero_le _, Nat.zero_le _⟩ ?_
      refine lv_if_eq (pc := 39) (tgt := 60) hx hb dX1_at_39 (by decide) (fun c7 => ?_) (fun c7 => ?_)
      · have hd := if_t c7 hd
        refine lv_aload_n (pc := 60) hx hb dX1_at_60 rfl (lv_at hl 0 rfl) ?_
        refine lv_iconst (v := (2 : Int32)) (pc := 61) hx hb dX1_at_61 (by decide) ?_
        obtain ⟨q8, hq8, hd⟩ := bs_bd hd
        refine call_M_finds (pc := 62) S hl hK hH q977 hq8 ⟨Nat.le_of_ble_eq_true rfl, Nat.le_of_ble_eq_true rfl⟩ (Nat.le_of_ble_eq_true rfl) dX1_at_62 ⟨Nat.zero_le _, Nat.zero_le _⟩ (fun H locs hH => ?_)
        exact g_iret (WM ct h) hd S hr hlk hH dX1_at_65
      · have hd := if_n c7 hd
        refine lv_aload_n (pc := 42) hx hb dX1_at_42 rfl (lv_at hl 0 rfl) ?_
        refine lv_aload_n (pc := 43) hx hb dX1_at_43 rfl (lv_at hl 0 rfl) ?_
        refine mg_rows (pc := 44) S hK hH dX1_at_44 ?_
        refine lv_bipush (v := (40 : Int32)) (pc := 47) hx hb dX1_at_47 (by decide) ?_
        refine lv_iload_n (pc := 49) hx hb dX1_at_49 rfl (lv_at hl 1 rfl) ?_
        refine lv_imul (pc := 50) hx hb dX1_at_50 ?_
        refine lv_iload_n (pc := 51) hx hb dX1_at_51 rfl (lv_at hl 2 rfl) ?_
        refine lv_iadd (pc := 52) hx hb dX1_at_52 ?_
        obtain ⟨v9, hv9, hd⟩ := bs_bd hd
        refine ml_rows (pc := 53) S hK hH hv9 dX1_at_53 ?_
        obtain ⟨q10, hq10, hd⟩ := bs_bd hd
        refine call_M_asks (pc := 54) S hl hK hH q989 hq10 ⟨Nat.le_of_ble_eq_true rfl, Nat.le_of_ble_eq_true rfl⟩ (Nat.le_of_ble_eq_true rfl) dX1_at_54 ⟨Nat.zero_le _, Nat.zero_le _⟩ (fun H locs hH => ?_)
        refine lv_goto (pc := 57) (tgt := 65) hx hb dX1_at_57 (by decide) ?_
        exact g_iret (WM ct h) hd S hr hlk hH dX1_at_65
    · have hd := if_n c4 hd
      refine lv_aload_n (pc := 18) hx hb dX1_at_18 rfl (lv_at hl 0 rfl) ?_
      refine lv_iconst (v := (1 : Int32)) (pc := 19) hx hb dX1_at_19 (by decide) ?_
      obtain ⟨q11, hq11, hd⟩ := bs_bd hd
      refine call_M_finds (pc := 20) S hl hK hH q977 hq11 ⟨Nat.le_of_ble_eq_true rfl, Nat.le_of_ble_eq_true rfl⟩ (Nat.le_of_ble_eq_true rfl) dX1_at_20 ⟨Nat.zero_le _, Nat.zero_le _⟩ (fun H locs hH => ?_)
      exact g_iret (WM ct h) hd S hr hlk hH dX1_at_23
  · have hd := if_t c2 hd
    refine lv_iconst (v := (-1 : Int32)) (pc := 7) hx hb dX1_at_7 (by decide) ?_
    exact g_iret (WM ct h) hd S hr hlk hH dX1_at_8
section CR_M_at
variable {p : Program} {l : Launch} {e : Env} {R : Room} {s : State} {m : MethodId} {args : Array Value} {below : List Frame} {meth : Method} {c : Code} {H : Heap} {locs : List Loc} {cells slots : Nat} {Q : State → Prop}
variable {cc : ByteArray} {pc nL idx : Nat} {ls : Array Slot} {rest : List Value} {lv : List (Nat × Value)} {A : Nat → Prop} {H0 : Heap} {own : String}
theorem call_M_at {D : va_G} {ct : Nat → ClassId} {h : Nat → Nat} {st : MS} {a1 : Int32} {a2 : Int32} {z : (MS × Int32)} (S : CallFix p m c cc nL s args lw_all own) (hl : lv_has ls nL lv) (hK : va_K D clA (tysG ct) s) (hH : GH D A (mAs h) H0 (WM ct h st) H locs) (hlk : Cond.methodLink own idx yX1_at ∈ lw_all) (hv : M_at st a1 a2 = some z) (hR : 3 ≤ R.frames ∧ 67 ≤ R.locals) (hsum : (rest.map fun v => v.category).sum ≤ 8) (hdg : decode cc pc = .ok (.invokevirtual idx, 3)) (hf : cells ≤ R.cells ∧ slots ≤ R.slots)
    (k : ∀ (H1 : Heap) (locs1 : List Loc), GH D A (mAs h) H0 (WM ct h z.1) H1 locs1 → W p l e R s m args below meth c H1 locs1 cells slots Q (F0 m (pc + 3) ls (.int z.2 :: rest))) : W p l e R s m args below meth c H locs cells slots Q (F0 m pc ls (.int a2 :: .int a1 :: .ref (h 0) :: rest)) :=
  g_calli (av := [.int a1, .int a2]) S hl gE_0_ok trivial hK hH (met_M_at l D ct h H.size st a1 a2 z hv) (lw_V hlk q986 q987 q70 q988) rfl rfl ⟨rfl, by decide, by decide, by show (parseMethodDescriptor yX1_at.desc).map (fun d => d.parameters.length) = some 2; decide +kernel⟩ hR (m_recv hK hH) (fun _ h => Or.inl h) rfl hsum hdg hf k
end CR_M_at
/-! CapCouncilModel.lay (III)I -/
def M_lay (st : MS) (a1 : Int32) (a2 : Int32) (a3 : Int32) : Option (MS × Int32) :=
  (M_at st a1 a2).bind fun q1 =>
  if q1.2 = (1 : Int32) then
    ((mast q1.1 3 240 (((40 : Int32) * a1) + a2) a3).bind fun s3 =>
    some (s3, q1.2))
  else
    (some (q1.1, q1.2))
def rm_M_lay : Room := { frames := 3, cells := 0, slots := 0, locals := 67 }
set_option maxHeartbeats 4000000 in
set_option maxRecDepth 100000 in
theorem met_M_lay (l : Launch) (D : va_G) (ct : Nat → ClassId) (h : Nat → Nat) (sz : Nat) (st : MS) (a1 : Int32) (a2 : Int32) (a3 : Int32) (z : (MS × Int32)) (hd : M_lay st a1 a2 a3 = some z) : Met l yX1_lay (ws_ yX1_lay cX1_lay 5 (some .int)) rm_M_lay (GPre gE_0 D ct (mAs h) (WM ct h st) sz [.ref (h 0), .int a1, .int a2, .int a3]) (GQi D (mAs h) (mAs h) (WM ct h z.1) sz z.2) 0 0 (gA (mAs h) sz) := by
  refine g_met (cc := cX1_lay) (maxL := 5) (ret := (some .int)) (by decide) (Nat.le_of_ble_eq_true rfl) ?_
  intro p e U m args below meth c ls S hr hlk hK hH hE hsz hl
  have S : CallFix p m c cX1_lay 5 U args lw_all RX1 := S
  have hx := S.1
  have hb := S.2.1
  have hl : lv_has ls 5 [(0, .ref (h 0)), (1, .int a1), (2, .int a2), (3, .int a3)] := hl
  unfold M_lay at hd
  refine lv_aload_n (pc := 0) hx hb dX1_lay_0 rfl (lv_at hl 0 rfl) ?_
  refine lv_iload_n (pc := 1) hx hb dX1_lay_1 rfl (lv_at hl 1 rfl) ?_
  refine lv_iload_n (pc := 2) hx hb dX1_lay_2 rfl (lv_at hl 2 rfl) ?_
  obtain ⟨q1, hq1, hd⟩ := bs_bd hd
  refine call_M_at (pc := 3) S hl hK hH q985 hq1 ⟨Nat.le_of_ble_eq_true rfl, Nat.le_of_ble_eq_true rfl⟩ (Nat.le_of_ble_eq_true rfl) dX1_lay_3 ⟨Nat.zero_le _, Nat.zero_le _⟩ (fun H locs hH => ?_)
  refine lv_istore (pc := 6) (lv' := [(4, .int q1.2), (0, .ref (h 0)), (1, .int a1), (2, .int a2), (3, .int a3)]) hx hb dX1_lay_6 hl (by decide) rfl (fun ls hl => ?_)
  refine lv_iload (pc := 8) hx hb dX1_lay_8 (lv_at hl 0 rfl) ?_
  refine lv_iconst (v := (1 : Int32)) (pc := 10) hx hb dX1_lay_10 (by decide) ?_
  refine lv_icmp_ne (pc := 11) (tgt := 26) hx hb dX1_lay_11 (by decide) (fun c2 => ?_) (fun c2 => ?_)
  · have hd := if_n c2 hd
    refine lv_iload (pc := 26) hx hb dX1_lay_26 (lv_at hl 0 rfl) ?_
    exact g_iret (WM ct h) hd S hr hlk hH dX1_lay_28
  · have hd := if_t c2 hd
    refine lv_aload_n (pc := 14) hx hb dX1_lay_14 rfl (lv_at hl 1 rfl) ?_
    refine mg_rows (pc := 15) S hK hH dX1_lay_15 ?_
    refine lv_bipush (v := (40 : Int32)) (pc := 18) hx hb dX1_lay_18 (by decide) ?_
    refine lv_iload_n (pc := 20) hx hb dX1_lay_20 rfl (lv_at hl 2 rfl) ?_
    refine lv_imul (pc := 21) hx hb dX1_lay_21 ?_
    refine lv_iload_n (pc := 22) hx hb dX1_lay_22 rfl (lv_at hl 3 rfl) ?_
    refine lv_iadd (pc := 23) hx hb dX1_lay_23 ?_
    refine lv_iload_n (pc := 24) hx hb dX1_lay_24 rfl (lv_at hl 4 rfl) ?_
    obtain ⟨s3, hs3, hd⟩ := bs_bd hd
    refine ms_rows (pc := 25) S hK hH hs3 dX1_lay_25 (fun H locs hH => ?_)
    refine lv_iload (pc := 26) hx hb dX1_lay_26 (lv_at hl 0 rfl) ?_
    exact g_iret (WM ct h) hd S hr hlk hH dX1_lay_28
section CR_M_lay
variable {p : Program} {l : Launch} {e : Env} {R : Room} {s : State} {m : MethodId} {args : Array Value} {below : List Frame} {meth : Method} {c : Code} {H : Heap} {locs : List Loc} {cells slots : Nat} {Q : State → Prop}
variable {cc : ByteArray} {pc nL idx : Nat} {ls : Array Slot} {rest : List Value} {lv : List (Nat × Value)} {A : Nat → Prop} {H0 : Heap} {own : String}
theorem call_M_lay {D : va_G} {ct : Nat → ClassId} {h : Nat → Nat} {st : MS} {a1 : Int32} {a2 : Int32} {a3 : Int32} {z : (MS × Int32)} (S : CallFix p m c cc nL s args lw_all own) (hl : lv_has ls nL lv) (hK : va_K D clA (tysG ct) s) (hH : GH D A (mAs h) H0 (WM ct h st) H locs) (hlk : Cond.methodLink own idx yX1_lay ∈ lw_all) (hv : M_lay st a1 a2 a3 = some z) (hR : 4 ≤ R.frames ∧ 91 ≤ R.locals) (hsum : (rest.map fun v => v.category).sum ≤ 8) (hdg : decode cc pc = .ok (.invokevirtual idx, 3)) (hf : cells ≤ R.cells ∧ slots ≤ R.slots)
    (k : ∀ (H1 : Heap) (locs1 : List Loc), GH D A (mAs h) H0 (WM ct h z.1) H1 locs1 → W p l e R s m args below meth c H1 locs1 cells slots Q (F0 m (pc + 3) ls (.int z.2 :: rest))) : W p l e R s m args below meth c H locs cells slots Q (F0 m pc ls (.int a3 :: .int a2 :: .int a1 :: .ref (h 0) :: rest)) :=
  g_calli (av := [.int a1, .int a2, .int a3]) S hl gE_0_ok trivial hK hH (met_M_lay l D ct h H.size st a1 a2 a3 z hv) (lw_V hlk q982 q983 q70 q984) rfl rfl ⟨rfl, by decide, by decide, by show (parseMethodDescriptor yX1_lay.desc).map (fun d => d.parameters.length) = some 3; decide +kernel⟩ hR (m_recv hK hH) (fun _ h => Or.inl h) rfl hsum hdg hf k
end CR_M_lay
/-! CapCouncilModel.tear (I)I -/
def M_tear (st : MS) (a1 : Int32) : Option (MS × Int32) :=
  (M_isRow a1).bind fun v1 =>
  if v1 = 0 then
    (some (st, (-1 : Int32)))
  else
    ((bs_ld (ma st 4) 6 a1).bind fun v3 =>
    if 0 ≤ v3 then
      ((mast st 4 6 a1 (-1 : Int32)).bind fun s5 =>
      some (s5, (1 : Int32)))
    else
      ((M_finds st (1 : Int32)).bind fun q6 =>
      some (q6.1, q6.2)))
def rm_M_tear : Room := { frames := 2, cells := 0, slots := 0, locals := 45 }
set_option maxHeartbeats 4000000 in
set_option maxRecDepth 100000 in
theorem met_M_tear (l : Launch) (D : va_G) (ct : Nat → ClassId) (h : Nat → Nat) (sz : Nat) (st : MS) (a1 : Int32) (z : (MS × Int32)) (hd : M_tear st a1 = some z) : Met l yX1_tear (ws_ yX1_tear cX1_tear 2 (some .int)) rm_M_tear (GPre gE_0 D ct (mAs h) (WM ct h st) sz [.ref (h 0), .int a1]) (GQi D (mAs h) (mAs h) (WM ct h z.1) sz z.2) 0 0 (gA (mAs h) sz) := by
  refine g_met (cc := cX1_tear) (maxL := 2) (ret := (some .int)) (by decide) (Nat.le_of_ble_eq_true rfl) ?_
  intro p e U m args below meth c ls S hr hlk hK hH hE hsz hl
  have S : CallFix p m c cX1_tear 2 U args lw_all RX1 := S
  have hx := S.1
  have hb := S.2.1
  have hl : lv_has ls 2 [(0, .ref (h 0)), (1, .int a1)] := hl
  unfold M_tear at hd
  refine lv_iload_n (pc := 0) hx hb dX1_tear_0 rfl (lv_at hl 1 rfl) ?_
  obtain ⟨v1, hv1, hd⟩ := bs_bd hd
  refine call_M_isRow (pc := 1) S hl q970 hv1 ⟨Nat.le_of_ble_eq_true rfl, Nat.le_of_ble_eq_true rfl⟩ (Nat.le_of_ble_eq_true rfl) dX1_tear_1 ⟨Nat.zero_le _, Nat.zero_le _⟩ ?_
  refine lv_if_ne (pc := 4) (tgt := 9) hx hb dX1_tear_4 (by decide) (fun c2 => ?_) (fun c2 => ?_)
  · have hd := if_n c2 hd
    refine lv_aload_n (pc := 9) hx hb dX1_tear_9 rfl (lv_at hl 0 rfl) ?_
    refine mg_rowLong (pc := 10) S hK hH dX1_tear_10 ?_
    refine lv_iload_n (pc := 13) hx hb dX1_tear_13 rfl (lv_at hl 1 rfl) ?_
    obtain ⟨v3, hv3, hd⟩ := bs_bd hd
    refine ml_rowLong (pc := 14) S hK hH hv3 dX1_tear_14 ?_
    refine lv_if_ge (pc := 15) (tgt := 24) hx hb dX1_tear_15 (by decide) (fun c4 => ?_) (fun c4 => ?_)
    · have hd := if_t c4 hd
      refine lv_aload_n (pc := 24) hx hb dX1_tear_24 rfl (lv_at hl 0 rfl) ?_
      refine mg_rowLong (pc := 25) S hK hH dX1_tear_25 ?_
      refine lv_iload_n (pc := 28) hx hb dX1_tear_28 rfl (lv_at hl 1 rfl) ?_
      refine lv_iconst (v := (-1 : Int32)) (pc := 29) hx hb dX1_tear_29 (by decide) ?_
      obtain ⟨s5, hs5, hd⟩ := bs_bd hd
      refine ms_rowLong (pc := 30) S hK hH hs5 dX1_tear_30 (fun H locs hH => ?_)
      refine lv_iconst (v := (1 : Int32)) (pc := 31) hx hb dX1_tear_31 (by decide) ?_
      exact g_iret (WM ct h) hd S hr hlk hH dX1_tear_32
    · have hd := if_n c4 hd
      refine lv_aload_n (pc := 18) hx hb dX1_tear_18 rfl (lv_at hl 0 rfl) ?_
      refine lv_iconst (v := (1 : Int32)) (pc := 19) hx hb dX1_tear_19 (by decide) ?_
      obtain ⟨q6, hq6, hd⟩ := bs_bd hd
      refine call_M_finds (pc := 20) S hl hK hH q977 hq6 ⟨Nat.le_of_ble_eq_true rfl, Nat.le_of_ble_eq_true rfl⟩ (Nat.le_of_ble_eq_true rfl) dX1_tear_20 ⟨Nat.zero_le _, Nat.zero_le _⟩ (fun H locs hH => ?_)
      exact g_iret (WM ct h) hd S hr hlk hH dX1_tear_23
  · have hd := if_t c2 hd
    refine lv_iconst (v := (-1 : Int32)) (pc := 7) hx hb dX1_tear_7 (by decide) ?_
    exact g_iret (WM ct h) hd S hr hlk hH dX1_tear_8
section CR_M_tear
variable {p : Program} {l : Launch} {e : Env} {R : Room} {s : State} {m : MethodId} {args : Array Value} {below : List Frame} {meth : Method} {c : Code} {H : Heap} {locs : List Loc} {cells slots : Nat} {Q : State → Prop}
variable {cc : ByteArray} {pc nL idx : Nat} {ls : Array Slot} {rest : List Value} {lv : List (Nat × Value)} {A : Nat → Prop} {H0 : Heap} {own : String}
theorem call_M_tear {D : va_G} {ct : Nat → ClassId} {h : Nat → Nat} {st : MS} {a1 : Int32} {z : (MS × Int32)} (S : CallFix p m c cc nL s args lw_all own) (hl : lv_has ls nL lv) (hK : va_K D clA (tysG ct) s) (hH : GH D A (mAs h) H0 (WM ct h st) H locs) (hlk : Cond.methodLink own idx yX1_tear ∈ lw_all) (hv : M_tear st a1 = some z) (hR : 3 ≤ R.frames ∧ 66 ≤ R.locals) (hsum : (rest.map fun v => v.category).sum ≤ 8) (hdg : decode cc pc = .ok (.invokevirtual idx, 3)) (hf : cells ≤ R.cells ∧ slots ≤ R.slots)
    (k : ∀ (H1 : Heap) (locs1 : List Loc), GH D A (mAs h) H0 (WM ct h z.1) H1 locs1 → W p l e R s m args below meth c H1 locs1 cells slots Q (F0 m (pc + 3) ls (.int z.2 :: rest))) : W p l e R s m args below meth c H locs cells slots Q (F0 m pc ls (.int a1 :: .ref (h 0) :: rest)) :=
  g_calli (av := [.int a1]) S hl gE_0_ok trivial hK hH (met_M_tear l D ct h H.size st a1 z hv) (lw_V hlk q995 q996 q70 q997) rfl rfl ⟨rfl, by decide, by decide, by show (parseMethodDescriptor yX1_tear.desc).map (fun d => d.parameters.length) = some 1; decide +kernel⟩ hR (m_recv hK hH) (fun _ h => Or.inl h) rfl hsum hdg hf k
end CR_M_tear
/-! CapCouncilModel.copy (IIIII)I -/
def M_copy_J45 (a1 : Int32) (a2 : Int32) (a3 : Int32) (a4 : Int32) (a5 : Int32) (st : MS) : Option (MS × Int32) :=
  (M_finds st (1 : Int32)).bind fun q17 =>
  some (q17.1, q17.2)
def M_copy_J92 (a1 : Int32) (a2 : Int32) (a3 : Int32) (a4 : Int32) (a5 : Int32) (st : MS) : Option (MS × Int32) :=
  (M_finds st (2 : Int32)).bind fun q18 =>
  some (q18.1, q18.2)
def M_copy_L101 (k138 : MS → Int32 → Option (MS × Int32)) (a1 : Int32) (a2 : Int32) (a3 : Int32) (a4 : Int32) (a5 : Int32) : Nat → MS → Int32 → Option (MS × Int32)
  | 0, _, _ => none
  | n + 1, st, x6 =>
    if a5 ≤ x6 then
      (k138 st (0 : Int32))
    else
      ((bs_ld (ma st 3) 240 ((((40 : Int32) * a1) + a2) + x6)).bind fun v20 =>
      (mast st 8 40 x6 v20).bind fun s21 =>
      bs_let (x6 + (1 : Int32)) fun w22 =>
      M_copy_L101 k138 a1 a2 a3 a4 a5 n s21 w22)
def M_copy_L138 (a1 : Int32) (a2 : Int32) (a3 : Int32) (a4 : Int32) (a5 : Int32) : Nat → MS → Int32 → Option (MS × Int32)
  | 0, _, _ => none
  | n + 1, st, x6 =>
    if a5 ≤ x6 then
      (some (st, (1 : Int32)))
    else
      ((bs_ld (ma st 8) 40 x6).bind fun v24 =>
      (mast st 3 240 ((((40 : Int32) * a3) + a4) + x6) v24).bind fun s25 =>
      bs_let (x6 + (1 : Int32)) fun w26 =>
      M_copy_L138 a1 a2 a3 a4 a5 n s25 w26)
def M_copy (st : MS) (a1 : Int32) (a2 : Int32) (a3 : Int32) (a4 : Int32) (a5 : Int32) : Option (MS × Int32) :=
  (M_isRow a1).bind fun v1 =>
  if v1 = 0 then
    (some (st, (-1 : Int32)))
  else
    ((M_isRow a3).bind fun v3 =>
    if v3 = 0 then
      (some (st, (-1 : Int32)))
    else
      (if 0 ≤ a5 then
        ((bs_ld (ma st 4) 6 a1).bind fun v6 =>
        if v6 < 0 then
          (M_copy_J45 a1 a2 a3 a4 a5 st)
        else
          ((bs_ld (ma st 4) 6 a3).bind fun v8 =>
          if 0 ≤ v8 then
            ((bs_ld (ma st 4) 6 a1).bind fun v10 =>
            (M_in (a2.toInt64) (0 : Int64) ((v10.toInt64) - (a5.toInt64))).bind fun v11 =>
            if v11 = 0 then
              (M_copy_J92 a1 a2 a3 a4 a5 st)
            else
              ((bs_ld (ma st 4) 6 a3).bind fun v13 =>
              (M_in (a4.toInt64) (0 : Int64) ((v13.toInt64) - (a5.toInt64))).bind fun v14 =>
              if v14 = 0 then
                (M_copy_J92 a1 a2 a3 a4 a5 st)
              else
                (M_copy_L101 (M_copy_L138 a1 a2 a3 a4 a5 bs_fu) a1 a2 a3 a4 a5 bs_fu st (0 : Int32))))
          else
            (M_copy_J45 a1 a2 a3 a4 a5 st)))
      else
        ((M_finds st (5 : Int32)).bind fun q16 =>
        some (q16.1, q16.2))))
def rm_M_copy : Room := { frames := 2, cells := 0, slots := 0, locals := 45 }
set_option maxHeartbeats 4000000 in
set_option maxRecDepth 100000 in
theorem met_M_copy (l : Launch) (D : va_G) (ct : Nat → ClassId) (h : Nat → Nat) (sz : Nat) (st : MS) (a1 : Int32) (a2 : Int32) (a3 : Int32) (a4 : Int32) (a5 : Int32) (z : (MS × Int32)) (hd : M_copy st a1 a2 a3 a4 a5 = some z) : Met l yX1_copy (ws_ yX1_copy cX1_copy 7 (some .int)) rm_M_copy (GPre gE_0 D ct (mAs h) (WM ct h st) sz [.ref (h 0), .int a1, .int a2, .int a3, .int a4, .int a5]) (GQi D (mAs h) (mAs h) (WM ct h z.1) sz z.2) 0 0 (gA (mAs h) sz) := by
  refine g_met (cc := cX1_copy) (maxL := 7) (ret := (some .int)) (by decide) (Nat.le_of_ble_eq_true rfl) ?_
  intro p e U m args below meth c ls S hr hlk hK hH hE hsz hl
  have S : CallFix p m c cX1_copy 7 U args lw_all RX1 := S
  have hx := S.1
  have hb := S.2.1
  have hl : lv_has ls 7 [(0, .ref (h 0)), (1, .int a1), (2, .int a2), (3, .int a3), (4, .int a4), (5, .int a5)] := hl
  have h45 : ∀ (st : MS) (H : Heap) (locs : List Loc) (ls : Array Slot), GH D (gA (mAs h) sz) (mAs h) U.heap (WM ct h st) H locs → lv_has ls 7 [(0, .ref (h 0)), (1, .int a1), (2, .int a2), (3, .int a3), (4, .int a4), (5, .int a5)] → M_copy_J45 a1 a2 a3 a4 a5 st = some z → W p l e rm_M_copy U m args below meth c H locs 0 0 (MQ below (GQi D (mAs h) (mAs h) (WM ct h z.1) sz z.2) args U 0 0 (gA (mAs h) sz)) (F0 m 45 ls []) := by
    intro st H locs ls hH hl hd
    unfold M_copy_J45 at hd
    refine lv_aload_n (pc := 45) hx hb dX1_copy_45 rfl (lv_at hl 0 rfl) ?_
    refine lv_iconst (v := (1 : Int32)) (pc := 46) hx hb dX1_copy_46 (by decide) ?_
    obtain ⟨q17, hq17, hd⟩ := bs_bd hd
    refine call_M_finds (pc := 47) S hl hK hH q977 hq17 ⟨Nat.le_of_ble_eq_true rfl, Nat.le_of_ble_eq_true rfl⟩ (Nat.le_of_ble_eq_true rfl) dX1_copy_47 ⟨Nat.zero_le _, Nat.zero_le _⟩ (fun H locs hH => ?_)
    exact g_iret (WM ct h) hd S hr hlk hH dX1_copy_50
  have h92 : ∀ (st : MS) (H : Heap) (locs : List Loc) (ls : Array Slot), GH D (gA (mAs h) sz) (mAs h) U.heap (WM ct h st) H locs → lv_has ls 7 [(0, .ref (h 0)), (1, .int a1), (2, .int a2), (3, .int a3), (4, .int a4), (5, .int a5)] → M_copy_J92 a1 a2 a3 a4 a5 st = some z → W p l e rm_M_copy U m args below meth c H locs 0 0 (MQ below (GQi D (mAs h) (mAs h) (WM ct h z.1) sz z.2) args U 0 0 (gA (mAs h) sz)) (F0 m 92 ls []) := by
    intro st H locs ls hH hl hd
    unfold M_copy_J92 at hd
    refine lv_aload_n (pc := 92) hx hb dX1_copy_92 rfl (lv_at hl 0 rfl) ?_
    refine lv_iconst (v := (2 : Int32)) (pc := 93) hx hb dX1_copy_93 (by decide) ?_
    obtain ⟨q18, hq18, hd⟩ := bs_bd hd
    refine call_M_finds (pc := 94) S hl hK hH q977 hq18 ⟨Nat.le_of_ble_eq_true rfl, Nat.le_of_ble_eq_true rfl⟩ (Nat.le_of_ble_eq_true rfl) dX1_copy_94 ⟨Nat.zero_le _, Nat.zero_le _⟩ (fun H locs hH => ?_)
    exact g_iret (WM ct h) hd S hr hlk hH dX1_copy_97
  have h138 : ∀ (n138 : Nat) (st : MS) (x6 : Int32) (H : Heap) (locs : List Loc) (ls : Array Slot), GH D (gA (mAs h) sz) (mAs h) U.heap (WM ct h st) H locs → lv_has ls 7 [(0, .ref (h 0)), (1, .int a1), (2, .int a2), (3, .int a3), (4, .int a4), (5, .int a5), (6, .int x6)] → M_copy_L138 a1 a2 a3 a4 a5 n138 st x6 = some z → W p l e rm_M_copy U m args below meth c H locs 0 0 (MQ below (GQi D (mAs h) (mAs h) (WM ct h z.1) sz z.2) args U 0 0 (gA (mAs h) sz)) (F0 m 138 ls []) := by
    intro n138
    induction n138 with
    | zero =>
      intro st x6 H locs ls hH hl hd
      rw [M_copy_L138] at hd
      cases hd
    | succ n138 ih138 =>
      intro st x6 H locs ls hH hl hd
      rw [M_copy_L138] at hd
      refine lv_iload (pc := 138) hx hb dX1_copy_138 (lv_at hl 6 rfl) ?_
      refine lv_iload (pc := 140) hx hb dX1_copy_140 (lv_at hl 5 rfl) ?_
      refine lv_icmp_ge (pc := 142) (tgt := 173) hx hb dX1_copy_142 (by decide) (fun c23 => ?_) (fun c23 => ?_)
      · have hd := if_t c23 hd
        refine lv_iconst (v := (1 : Int32)) (pc := 173) hx hb dX1_copy_173 (by decide) ?_
        exact g_iret (WM ct h) hd S hr hlk hH dX1_copy_174
      · have hd := if_n c23 hd
        refine lv_aload_n (pc := 145) hx hb dX1_copy_145 rfl (lv_at hl 0 rfl) ?_
        refine mg_rows (pc := 146) S hK hH dX1_copy_146 ?_
        refine lv_bipush (v := (40 : Int32)) (pc := 149) hx hb dX1_copy_149 (by decide) ?_
        refine lv_iload_n (pc := 151) hx hb dX1_copy_151 rfl (lv_at hl 3 rfl) ?_
        refine lv_imul (pc := 152) hx hb dX1_copy_152 ?_
        refine lv_iload (pc := 153) hx hb dX1_copy_153 (lv_at hl 4 rfl) ?_
        refine lv_iadd (pc := 155) hx hb dX1_copy_155 ?_
        refine lv_iload (pc := 156) hx hb dX1_copy_156 (lv_at hl 6 rfl) ?_
        refine lv_iadd (pc := 158) hx hb dX1_copy_158 ?_
        refine lv_aload_n (pc := 159) hx hb dX1_copy_159 rfl (lv_at hl 0 rfl) ?_
        refine mg_taken (pc := 160) S hK hH dX1_copy_160 ?_
        refine lv_iload (pc := 163) hx hb dX1_copy_163 (lv_at hl 6 rfl) ?_
        obtain ⟨v24, hv24, hd⟩ := bs_bd hd
        refine ml_taken (pc := 165) S hK hH hv24 dX1_copy_165 ?_
        obtain ⟨s25, hs25, hd⟩ := bs_bd hd
        refine ms_rows (pc := 166) S hK hH hs25 dX1_copy_166 (fun H locs hH => ?_)
        obtain ⟨w26, ew26, hd⟩ := bs_let_spec hd
        refine lv_iinc (pc := 167) (v := w26) (lv' := [(6, .int w26), (0, .ref (h 0)), (1, .int a1), (2, .int a2), (3, .int a3), (4, .int a4), (5, .int a5)]) hx hb dX1_copy_167 hl (k := 6) rfl (by rw [ew26]; rfl) (by decide) rfl (fun ls hl => ?_)
        refine lv_goto (pc := 170) (tgt := 138) hx hb dX1_copy_170 (by decide) ?_
        exact ih138 s25 w26 _ _ _ hH (lv_sub hl [1, 2, 3, 4, 5, 6, 0] rfl) hd
  have h101 : ∀ (n101 : Nat) (st : MS) (x6 : Int32) (H : Heap) (locs : List Loc) (ls : Array Slot), GH D (gA (mAs h) sz) (mAs h) U.heap (WM ct h st) H locs → lv_has ls 7 [(0, .ref (h 0)), (1, .int a1), (2, .int a2), (3, .int a3), (4, .int a4), (5, .int a5), (6, .int x6)] → M_copy_L101 (M_copy_L138 a1 a2 a3 a4 a5 bs_fu) a1 a2 a3 a4 a5 n101 st x6 = some z → W p l e rm_M_copy U m args below meth c H locs 0 0 (MQ below (GQi D (mAs h) (mAs h) (WM ct h z.1) sz z.2) args U 0 0 (gA (mAs h) sz)) (F0 m 101 ls []) := by
    intro n101
    induction n101 with
    | zero =>
      intro st x6 H locs ls hH hl hd
      rw [M_copy_L101] at hd
      cases hd
    | succ n101 ih101 =>
      intro st x6 H locs ls hH hl hd
      rw [M_copy_L101] at hd
      refine lv_iload (pc := 101) hx hb dX1_copy_101 (lv_at hl 6 rfl) ?_
      refine lv_iload (pc := 103) hx hb dX1_copy_103 (lv_at hl 5 rfl) ?_
      refine lv_icmp_ge (pc := 105) (tgt := 135) hx hb dX1_copy_105 (by decide) (fun c19 => ?_) (fun c19 => ?_)
      · have hd := if_t c19 hd
        refine lv_iconst (v := (0 : Int32)) (pc := 135) hx hb dX1_copy_135 (by decide) ?_
        refine lv_istore (pc := 136) (lv' := [(6, .int (0 : Int32)), (0, .ref (h 0)), (1, .int a1), (2, .int a2), (3, .int a3), (4, .int a4), (5, .int a5)]) hx hb dX1_copy_136 hl (by decide) rfl (fun ls hl => ?_)
        exact h138 bs_fu st (0 : Int32) _ _ _ hH (lv_sub hl [1, 2, 3, 4, 5, 6, 0] rfl) hd
      · have hd := if_n c19 hd
        refine lv_aload_n (pc := 108) hx hb dX1_copy_108 rfl (lv_at hl 0 rfl) ?_
        refine mg_taken (pc := 109) S hK hH dX1_copy_109 ?_
        refine lv_iload (pc := 112) hx hb dX1_copy_112 (lv_at hl 6 rfl) ?_
        refine lv_aload_n (pc := 114) hx hb dX1_copy_114 rfl (lv_at hl 0 rfl) ?_
        refine mg_rows (pc := 115) S hK hH dX1_copy_115 ?_
        refine lv_bipush (v := (40 : Int32)) (pc := 118) hx hb dX1_copy_118 (by decide) ?_
        refine lv_iload_n (pc := 120) hx hb dX1_copy_120 rfl (lv_at hl 1 rfl) ?_
        refine lv_imul (pc := 121) hx hb dX1_copy_121 ?_
        refine lv_iload_n (pc := 122) hx hb dX1_copy_122 rfl (lv_at hl 2 rfl) ?_
        refine lv_iadd (pc := 123) hx hb dX1_copy_123 ?_
        refine lv_iload (pc := 124) hx hb dX1_copy_124 (lv_at hl 6 rfl) ?_
        refine lv_iadd (pc := 126) hx hb dX1_copy_126 ?_
        obtain ⟨v20, hv20, hd⟩ := bs_bd hd
        refine ml_rows (pc := 127) S hK hH hv20 dX1_copy_127 ?_
        obtain ⟨s21, hs21, hd⟩ := bs_bd hd
        refine ms_taken (pc := 128) S hK hH hs21 dX1_copy_128 (fun H locs hH => ?_)
        obtain ⟨w22, ew22, hd⟩ := bs_let_spec hd
        refine lv_iinc (pc := 129) (v := w22) (lv' := [(6, .int w22), (0, .ref (h 0)), (1, .int a1), (2, .int a2), (3, .int a3), (4, .int a4), (5, .int a5)]) hx hb dX1_copy_129 hl (k := 6) rfl (by rw [ew22]; rfl) (by decide) rfl (fun ls hl => ?_)
        refine lv_goto (pc := 132) (tgt := 101) hx hb dX1_copy_132 (by decide) ?_
        exact ih101 s21 w22 _ _ _ hH (lv_sub hl [1, 2, 3, 4, 5, 6, 0] rfl) hd
  unfold M_copy at hd
  refine lv_iload_n (pc := 0) hx hb dX1_copy_0 rfl (lv_at hl 1 rfl) ?_
  obtain ⟨v1, hv1, hd⟩ := bs_bd hd
  refine call_M_isRow (pc := 1) S hl q970 hv1 ⟨Nat.le_of_ble_eq_true rfl, Nat.le_of_ble_eq_true rfl⟩ (Nat.le_of_ble_eq_true rfl) dX1_copy_1 ⟨Nat.zero_le _, Nat.zero_le _⟩ ?_
  refine lv_if_eq (pc := 4) (tgt := 14) hx hb dX1_copy_4 (by decide) (fun c2 => ?_) (fun c2 => ?_)
  · have hd := if_t c2 hd
    refine lv_iconst (v := (-1 : Int32)) (pc := 14) hx hb dX1_copy_14 (by decide) ?_
    exact g_iret (WM ct h) hd S hr hlk hH dX1_copy_15
  · have hd := if_n c2 hd
    refine lv_iload_n (pc := 7) hx hb dX1_copy_7 rfl (lv_at hl 3 rfl) ?_
    obtain ⟨v3, hv3, hd⟩ := bs_bd hd
    refine call_M_isRow (pc := 8) S hl q970 hv3 ⟨Nat.le_of_ble_eq_true rfl, Nat.le_of_ble_eq_true rfl⟩ (Nat.le_of_ble_eq_true rfl) dX1_copy_8 ⟨Nat.zero_le _, Nat.zero_le _⟩ ?_
    refine lv_if_ne (pc := 11) (tgt := 16) hx hb dX1_copy_11 (by decide) (fun c4 => ?_) (fun c4 => ?_)
    · have hd := if_n c4 hd
      refine lv_iload (pc := 16) hx hb dX1_copy_16 (lv_at hl 5 rfl) ?_
      refine lv_if_ge (pc := 18) (tgt := 27) hx hb dX1_copy_18 (by decide) (fun c5 => ?_) (fun c5 => ?_)
      · have hd := if_t c5 hd
        refine lv_aload_n (pc := 27) hx hb dX1_copy_27 rfl (lv_at hl 0 rfl) ?_
        refine mg_rowLong (pc := 28) S hK hH dX1_copy_28 ?_
        refine lv_iload_n (pc := 31) hx hb dX1_copy_31 rfl (lv_at hl 1 rfl) ?_
        obtain ⟨v6, hv6, hd⟩ := bs_bd hd
        refine ml_rowLong (pc := 32) S hK hH hv6 dX1_copy_32 ?_
        refine lv_if_lt (pc := 33) (tgt := 45) hx hb dX1_copy_33 (by decide) (fun c7 => ?_) (fun c7 => ?_)
        · have hd := if_t c7 hd
          exact h45 st _ _ _ hH (lv_sub hl [0, 1, 2, 3, 4, 5] rfl) hd
        · have hd := if_n c7 hd
          refine lv_aload_n (pc := 36) hx hb dX1_copy_36 rfl (lv_at hl 0 rfl) ?_
          refine mg_rowLong (pc := 37) S hK hH dX1_copy_37 ?_
          refine lv_iload_n (pc := 40) hx hb dX1_copy_40 rfl (lv_at hl 3 rfl) ?_
          obtain ⟨v8, hv8, hd⟩ := bs_bd hd
          refine ml_rowLong (pc := 41) S hK hH hv8 dX1_copy_41 ?_
          refine lv_if_ge (pc := 42) (tgt := 51) hx hb dX1_copy_42 (by decide) (fun c9 => ?_) (fun c9 => ?_)
          · have hd := if_t c9 hd
            refine lv_iload_n (pc := 51) hx hb dX1_copy_51 rfl (lv_at hl 2 rfl) ?_
            refine lv_i2l (pc := 52) hx hb dX1_copy_52 rfl ?_
            refine lv_lconst (v := (0 : Int64)) (pc := 53) hx hb dX1_copy_53 (by decide) ?_
            refine lv_aload_n (pc := 54) hx hb dX1_copy_54 rfl (lv_at hl 0 rfl) ?_
            refine mg_rowLong (pc := 55) S hK hH dX1_copy_55 ?_
            refine lv_iload_n (pc := 58) hx hb dX1_copy_58 rfl (lv_at hl 1 rfl) ?_
            obtain ⟨v10, hv10, hd⟩ := bs_bd hd
            refine ml_rowLong (pc := 59) S hK hH hv10 dX1_copy_59 ?_
            refine lv_i2l (pc := 60) hx hb dX1_copy_60 rfl ?_
            refine lv_iload (pc := 61) hx hb dX1_copy_61 (lv_at hl 5 rfl) ?_
            refine lv_i2l (pc := 63) hx hb dX1_copy_63 rfl ?_
            refine lv_lsub (pc := 64) hx hb dX1_copy_64 ?_
            obtain ⟨v11, hv11, hd⟩ := bs_bd hd
            refine call_M_in (pc := 65) S hl q974 hv11 ⟨Nat.le_of_ble_eq_true rfl, Nat.le_of_ble_eq_true rfl⟩ (Nat.le_of_ble_eq_true rfl) dX1_copy_65 ⟨Nat.zero_le _, Nat.zero_le _⟩ ?_
            refine lv_if_eq (pc := 68) (tgt := 92) hx hb dX1_copy_68 (by decide) (fun c12 => ?_) (fun c12 => ?_)
            · have hd := if_t c12 hd
              exact h92 st _ _ _ hH (lv_sub hl [0, 1, 2, 3, 4, 5] rfl) hd
            · have hd := if_n c12 hd
              refine lv_iload (pc := 71) hx hb dX1_copy_71 (lv_at hl 4 rfl) ?_
              refine lv_i2l (pc := 73) hx hb dX1_copy_73 rfl ?_
              refine lv_lconst (v := (0 : Int64)) (pc := 74) hx hb dX1_copy_74 (by decide) ?_
              refine lv_aload_n (pc := 75) hx hb dX1_copy_75 rfl (lv_at hl 0 rfl) ?_
              refine mg_rowLong (pc := 76) S hK hH dX1_copy_76 ?_
              refine lv_iload_n (pc := 79) hx hb dX1_copy_79 rfl (lv_at hl 3 rfl) ?_
              obtain ⟨v13, hv13, hd⟩ := bs_bd hd
              refine ml_rowLong (pc := 80) S hK hH hv13 dX1_copy_80 ?_
              refine lv_i2l (pc := 81) hx hb dX1_copy_81 rfl ?_
              refine lv_iload (pc := 82) hx hb dX1_copy_82 (lv_at hl 5 rfl) ?_
              refine lv_i2l (pc := 84) hx hb dX1_copy_84 rfl ?_
              refine lv_lsub (pc := 85) hx hb dX1_copy_85 ?_
              obtain ⟨v14, hv14, hd⟩ := bs_bd hd
              refine call_M_in (pc := 86) S hl q974 hv14 ⟨Nat.le_of_ble_eq_true rfl, Nat.le_of_ble_eq_true rfl⟩ (Nat.le_of_ble_eq_true rfl) dX1_copy_86 ⟨Nat.zero_le _, Nat.zero_le _⟩ ?_
              refine lv_if_ne (pc := 89) (tgt := 98) hx hb dX1_copy_89 (by decide) (fun c15 => ?_) (fun c15 => ?_)
              · have hd := if_n c15 hd
                refine lv_iconst (v := (0 : Int32)) (pc := 98) hx hb dX1_copy_98 (by decide) ?_
                refine lv_istore (pc := 99) (lv' := [(6, .int (0 : Int32)), (0, .ref (h 0)), (1, .int a1), (2, .int a2), (3, .int a3), (4, .int a4), (5, .int a5)]) hx hb dX1_copy_99 hl (by decide) rfl (fun ls hl => ?_)
                exact h101 bs_fu st (0 : Int32) _ _ _ hH (lv_sub hl [1, 2, 3, 4, 5, 6, 0] rfl) hd
              · have hd := if_t c15 hd
                exact h92 st _ _ _ hH (lv_sub hl [0, 1, 2, 3, 4, 5] rfl) hd
          · have hd := if_n c9 hd
            exact h45 st _ _ _ hH (lv_sub hl [0, 1, 2, 3, 4, 5] rfl) hd
      · have hd := if_n c5 hd
        refine lv_aload_n (pc := 21) hx hb dX1_copy_21 rfl (lv_at hl 0 rfl) ?_
        refine lv_iconst (v := (5 : Int32)) (pc := 22) hx hb dX1_copy_22 (by decide) ?_
        obtain ⟨q16, hq16, hd⟩ := bs_bd hd
        refine call_M_finds (pc := 23) S hl hK hH q977 hq16 ⟨Nat.le_of_ble_eq_true rfl, Nat.le_of_ble_eq_true rfl⟩ (Nat.le_of_ble_eq_true rfl) dX1_copy_23 ⟨Nat.zero_le _, Nat.zero_le _⟩ (fun H locs hH => ?_)
        exact g_iret (WM ct h) hd S hr hlk hH dX1_copy_26
    · have hd := if_t c4 hd
      refine lv_iconst (v := (-1 : Int32)) (pc := 14) hx hb dX1_copy_14 (by decide) ?_
      exact g_iret (WM ct h) hd S hr hlk hH dX1_copy_15
section CR_M_copy
variable {p : Program} {l : Launch} {e : Env} {R : Room} {s : State} {m : MethodId} {args : Array Value} {below : List Frame} {meth : Method} {c : Code} {H : Heap} {locs : List Loc} {cells slots : Nat} {Q : State → Prop}
variable {cc : ByteArray} {pc nL idx : Nat} {ls : Array Slot} {rest : List Value} {lv : List (Nat × Value)} {A : Nat → Prop} {H0 : Heap} {own : String}
theorem call_M_copy {D : va_G} {ct : Nat → ClassId} {h : Nat → Nat} {st : MS} {a1 : Int32} {a2 : Int32} {a3 : Int32} {a4 : Int32} {a5 : Int32} {z : (MS × Int32)} (S : CallFix p m c cc nL s args lw_all own) (hl : lv_has ls nL lv) (hK : va_K D clA (tysG ct) s) (hH : GH D A (mAs h) H0 (WM ct h st) H locs) (hlk : Cond.methodLink own idx yX1_copy ∈ lw_all) (hv : M_copy st a1 a2 a3 a4 a5 = some z) (hR : 3 ≤ R.frames ∧ 71 ≤ R.locals) (hsum : (rest.map fun v => v.category).sum ≤ 8) (hdg : decode cc pc = .ok (.invokevirtual idx, 3)) (hf : cells ≤ R.cells ∧ slots ≤ R.slots)
    (k : ∀ (H1 : Heap) (locs1 : List Loc), GH D A (mAs h) H0 (WM ct h z.1) H1 locs1 → W p l e R s m args below meth c H1 locs1 cells slots Q (F0 m (pc + 3) ls (.int z.2 :: rest))) : W p l e R s m args below meth c H locs cells slots Q (F0 m pc ls (.int a5 :: .int a4 :: .int a3 :: .int a2 :: .int a1 :: .ref (h 0) :: rest)) :=
  g_calli (av := [.int a1, .int a2, .int a3, .int a4, .int a5]) S hl gE_0_ok trivial hK hH (met_M_copy l D ct h H.size st a1 a2 a3 a4 a5 z hv) (lw_V hlk q999 q1000 q70 q1001) rfl rfl ⟨rfl, by decide, by decide, by show (parseMethodDescriptor yX1_copy.desc).map (fun d => d.parameters.length) = some 5; decide +kernel⟩ hR (m_recv hK hH) (fun _ h => Or.inl h) rfl hsum hdg hf k
end CR_M_copy
/-! CapCouncilModel.mean (I)I -/
def M_mean_L44 (k77 : MS → Int64 → Option (MS × Int32)) (a1 : Int32) : Nat → MS → Int64 → Int32 → Option (MS × Int32)
  | 0, _, _, _ => none
  | n + 1, st, x2, x4 =>
    (bs_ld (ma st 4) 6 a1).bind fun v9 =>
    if v9 ≤ x4 then
      (k77 st x2)
    else
      ((bs_ld (ma st 3) 240 (((40 : Int32) * a1) + x4)).bind fun v11 =>
      bs_let (x2 + (v11.toInt64)) fun w12 =>
      bs_let (x4 + (1 : Int32)) fun w13 =>
      M_mean_L44 k77 a1 n st w12 w13)
def M_mean_J77 (a1 : Int32) (st : MS) (x2 : Int64) : Option (MS × Int32) :=
  (bs_ld (ma st 4) 6 a1).bind fun v14 =>
  bs_nzl (v14.toInt64) <|
  (M_asks st (((x2 / (v14.toInt64))).toInt32)).bind fun q16 =>
  some (q16.1, q16.2)
def M_mean (st : MS) (a1 : Int32) : Option (MS × Int32) :=
  (M_isRow a1).bind fun v1 =>
  if v1 = 0 then
    (some (st, (-1 : Int32)))
  else
    ((bs_ld (ma st 4) 6 a1).bind fun v3 =>
    if 0 ≤ v3 then
      ((bs_ld (ma st 4) 6 a1).bind fun v5 =>
      if v5 = 0 then
        ((M_finds st (4 : Int32)).bind fun q7 =>
        some (q7.1, q7.2))
      else
        (M_mean_L44 (M_mean_J77 a1) a1 bs_fu st (0 : Int64) (0 : Int32)))
    else
      ((M_finds st (1 : Int32)).bind fun q8 =>
      some (q8.1, q8.2)))
def rm_M_mean : Room := { frames := 2, cells := 0, slots := 0, locals := 45 }
set_option maxHeartbeats 4000000 in
set_option maxRecDepth 100000 in
theorem met_M_mean (l : Launch) (D : va_G) (ct : Nat → ClassId) (h : Nat → Nat) (sz : Nat) (st : MS) (a1 : Int32) (z : (MS × Int32)) (hd : M_mean st a1 = some z) : Met l yX1_mean (ws_ yX1_mean cX1_mean 5 (some .int)) rm_M_mean (GPre gE_0 D ct (mAs h) (WM ct h st) sz [.ref (h 0), .int a1]) (GQi D (mAs h) (mAs h) (WM ct h z.1) sz z.2) 0 0 (gA (mAs h) sz) := by
  refine g_met (cc := cX1_mean) (maxL := 5) (ret := (some .int)) (by decide) (Nat.le_of_ble_eq_true rfl) ?_
  intro p e U m args below meth c ls S hr hlk hK hH hE hsz hl
  have S : CallFix p m c cX1_mean 5 U args lw_all RX1 := S
  have hx := S.1
  have hb := S.2.1
  have hl : lv_has ls 5 [(0, .ref (h 0)), (1, .int a1)] := hl
  have h77 : ∀ (st : MS) (x2 : Int64) (H : Heap) (locs : List Loc) (ls : Array Slot), GH D (gA (mAs h) sz) (mAs h) U.heap (WM ct h st) H locs → lv_has ls 5 [(0, .ref (h 0)), (1, .int a1), (2, .long x2)] → M_mean_J77 a1 st x2 = some z → W p l e rm_M_mean U m args below meth c H locs 0 0 (MQ below (GQi D (mAs h) (mAs h) (WM ct h z.1) sz z.2) args U 0 0 (gA (mAs h) sz)) (F0 m 77 ls []) := by
    intro st x2 H locs ls hH hl hd
    unfold M_mean_J77 at hd
    refine lv_aload_n (pc := 77) hx hb dX1_mean_77 rfl (lv_at hl 0 rfl) ?_
    refine lv_lload_n (pc := 78) hx hb dX1_mean_78 rfl (lv_at hl 2 rfl) ?_
    refine lv_aload_n (pc := 79) hx hb dX1_mean_79 rfl (lv_at hl 0 rfl) ?_
    refine mg_rowLong (pc := 80) S hK hH dX1_mean_80 ?_
    refine lv_iload_n (pc := 83) hx hb dX1_mean_83 rfl (lv_at hl 1 rfl) ?_
    obtain ⟨v14, hv14, hd⟩ := bs_bd hd
    refine ml_rowLong (pc := 84) S hK hH hv14 dX1_mean_84 ?_
    refine lv_i2l (pc := 85) hx hb dX1_mean_85 rfl ?_
    obtain ⟨z15, hd⟩ := bs_nzl_spec hd
    refine lv_ldiv (pc := 86) hx hb dX1_mean_86 z15 ?_
    refine lv_l2i (pc := 87) hx hb dX1_mean_87 rfl ?_
    obtain ⟨q16, hq16, hd⟩ := bs_bd hd
    refine call_M_asks (pc := 88) S hl hK hH q989 hq16 ⟨Nat.le_of_ble_eq_true rfl, Nat.le_of_ble_eq_true rfl⟩ (Nat.le_of_ble_eq_true rfl) dX1_mean_88 ⟨Nat.zero_le _, Nat.zero_le _⟩ (fun H locs hH => ?_)
    exact g_iret (WM ct h) hd S hr hlk hH dX1_mean_91
  have h44 : ∀ (n44 : Nat) (st : MS) (x2 : Int64) (x4 : Int32) (H : Heap) (locs : List Loc) (ls : Array Slot), GH D (gA (mAs h) sz) (mAs h) U.heap (WM ct h st) H locs → lv_has ls 5 [(0, .ref (h 0)), (1, .int a1), (2, .long x2), (4, .int x4)] → M_mean_L44 (M_mean_J77 a1) a1 n44 st x2 x4 = some z → W p l e rm_M_mean U m args below meth c H locs 0 0 (MQ below (GQi D (mAs h) (mAs h) (WM ct h z.1) sz z.2) args U 0 0 (gA (mAs h) sz)) (F0 m 44 ls []) := by
    intro n44
    induction n44 with
    | zero =>
      intro st x2 x4 H locs ls hH hl hd
      rw [M_mean_L44] at hd
      cases hd
    | succ n44 ih44 =>
      intro st x2 x4 H locs ls hH hl hd
      rw [M_mean_L44] at hd
      refine lv_iload (pc := 44) hx hb dX1_mean_44 (lv_at hl 3 rfl) ?_
      refine lv_aload_n (pc := 46) hx hb dX1_mean_46 rfl (lv_at hl 0 rfl) ?_
      refine mg_rowLong (pc := 47) S hK hH dX1_mean_47 ?_
      refine lv_iload_n (pc := 50) hx hb dX1_mean_50 rfl (lv_at hl 1 rfl) ?_
      obtain ⟨v9, hv9, hd⟩ := bs_bd hd
      refine ml_rowLong (pc := 51) S hK hH hv9 dX1_mean_51 ?_
      refine lv_icmp_ge (pc := 52) (tgt := 77) hx hb dX1_mean_52 (by decide) (fun c10 => ?_) (fun c10 => ?_)
      · have hd := if_t c10 hd
        exact h77 st x2 _ _ _ hH (lv_sub hl [0, 1, 2] rfl) hd
      · have hd := if_n c10 hd
        refine lv_lload_n (pc := 55) hx hb dX1_mean_55 rfl (lv_at hl 2 rfl) ?_
        refine lv_aload_n (pc := 56) hx hb dX1_mean_56 rfl (lv_at hl 0 rfl) ?_
        refine mg_rows (pc := 57) S hK hH dX1_mean_57 ?_
        refine lv_bipush (v := (40 : Int32)) (pc := 60) hx hb dX1_mean_60 (by decide) ?_
        refine lv_iload_n (pc := 62) hx hb dX1_mean_62 rfl (lv_at hl 1 rfl) ?_
        refine lv_imul (pc := 63) hx hb dX1_mean_63 ?_
        refine lv_iload (pc := 64) hx hb dX1_mean_64 (lv_at hl 3 rfl) ?_
        refine lv_iadd (pc := 66) hx hb dX1_mean_66 ?_
        obtain ⟨v11, hv11, hd⟩ := bs_bd hd
        refine ml_rows (pc := 67) S hK hH hv11 dX1_mean_67 ?_
        refine lv_i2l (pc := 68) hx hb dX1_mean_68 rfl ?_
        refine lv_ladd (pc := 69) hx hb dX1_mean_69 ?_
        obtain ⟨w12, ew12, hd⟩ := bs_let_spec hd
        refine lv_topEl (pc := 70) ew12 ?_
        refine lv_lstore_n (pc := 70) (lv' := [(2, .long w12), (0, .ref (h 0)), (1, .int a1), (4, .int x4)]) hx hb dX1_mean_70 rfl hl (by decide) rfl (fun ls hl => ?_)
        obtain ⟨w13, ew13, hd⟩ := bs_let_spec hd
        refine lv_iinc (pc := 71) (v := w13) (lv' := [(4, .int w13), (2, .long w12), (0, .ref (h 0)), (1, .int a1)]) hx hb dX1_mean_71 hl (k := 3) rfl (by rw [ew13]; rfl) (by decide) rfl (fun ls hl => ?_)
        refine lv_goto (pc := 74) (tgt := 44) hx hb dX1_mean_74 (by decide) ?_
        exact ih44 st w12 w13 _ _ _ hH (lv_sub hl [2, 3, 1, 0] rfl) hd
  unfold M_mean at hd
  refine lv_iload_n (pc := 0) hx hb dX1_mean_0 rfl (lv_at hl 1 rfl) ?_
  obtain ⟨v1, hv1, hd⟩ := bs_bd hd
  refine call_M_isRow (pc := 1) S hl q970 hv1 ⟨Nat.le_of_ble_eq_true rfl, Nat.le_of_ble_eq_true rfl⟩ (Nat.le_of_ble_eq_true rfl) dX1_mean_1 ⟨Nat.zero_le _, Nat.zero_le _⟩ ?_
  refine lv_if_ne (pc := 4) (tgt := 9) hx hb dX1_mean_4 (by decide) (fun c2 => ?_) (fun c2 => ?_)
  · have hd := if_n c2 hd
    refine lv_aload_n (pc := 9) hx hb dX1_mean_9 rfl (lv_at hl 0 rfl) ?_
    refine mg_rowLong (pc := 10) S hK hH dX1_mean_10 ?_
    refine lv_iload_n (pc := 13) hx hb dX1_mean_13 rfl (lv_at hl 1 rfl) ?_
    obtain ⟨v3, hv3, hd⟩ := bs_bd hd
    refine ml_rowLong (pc := 14) S hK hH hv3 dX1_mean_14 ?_
    refine lv_if_ge (pc := 15) (tgt := 24) hx hb dX1_mean_15 (by decide) (fun c4 => ?_) (fun c4 => ?_)
    · have hd := if_t c4 hd
      refine lv_aload_n (pc := 24) hx hb dX1_mean_24 rfl (lv_at hl 0 rfl) ?_
      refine mg_rowLong (pc := 25) S hK hH dX1_mean_25 ?_
      refine lv_iload_n (pc := 28) hx hb dX1_mean_28 rfl (lv_at hl 1 rfl) ?_
      obtain ⟨v5, hv5, hd⟩ := bs_bd hd
      refine ml_rowLong (pc := 29) S hK hH hv5 dX1_mean_29 ?_
      refine lv_if_ne (pc := 30) (tgt := 39) hx hb dX1_mean_30 (by decide) (fun c6 => ?_) (fun c6 => ?_)
      · have hd := if_n c6 hd
        refine lv_lconst (v := (0 : Int64)) (pc := 39) hx hb dX1_mean_39 (by decide) ?_
        refine lv_lstore_n (pc := 40) (lv' := [(2, .long (0 : Int64)), (0, .ref (h 0)), (1, .int a1)]) hx hb dX1_mean_40 rfl hl (by decide) rfl (fun ls hl => ?_)
        refine lv_iconst (v := (0 : Int32)) (pc := 41) hx hb dX1_mean_41 (by decide) ?_
        refine lv_istore (pc := 42) (lv' := [(4, .int (0 : Int32)), (2, .long (0 : Int64)), (0, .ref (h 0)), (1, .int a1)]) hx hb dX1_mean_42 hl (by decide) rfl (fun ls hl => ?_)
        exact h44 bs_fu st (0 : Int64) (0 : Int32) _ _ _ hH (lv_sub hl [2, 3, 1, 0] rfl) hd
      · have hd := if_t c6 hd
        refine lv_aload_n (pc := 33) hx hb dX1_mean_33 rfl (lv_at hl 0 rfl) ?_
        refine lv_iconst (v := (4 : Int32)) (pc := 34) hx hb dX1_mean_34 (by decide) ?_
        obtain ⟨q7, hq7, hd⟩ := bs_bd hd
        refine call_M_finds (pc := 35) S hl hK hH q977 hq7 ⟨Nat.le_of_ble_eq_true rfl, Nat.le_of_ble_eq_true rfl⟩ (Nat.le_of_ble_eq_true rfl) dX1_mean_35 ⟨Nat.zero_le _, Nat.zero_le _⟩ (fun H locs hH => ?_)
        exact g_iret (WM ct h) hd S hr hlk hH dX1_mean_38
    · have hd := if_n c4 hd
      refine lv_aload_n (pc := 18) hx hb dX1_mean_18 rfl (lv_at hl 0 rfl) ?_
      refine lv_iconst (v := (1 : Int32)) (pc := 19) hx hb dX1_mean_19 (by decide) ?_
      obtain ⟨q8, hq8, hd⟩ := bs_bd hd
      refine call_M_finds (pc := 20) S hl hK hH q977 hq8 ⟨Nat.le_of_ble_eq_true rfl, Nat.le_of_ble_eq_true rfl⟩ (Nat.le_of_ble_eq_true rfl) dX1_mean_20 ⟨Nat.zero_le _, Nat.zero_le _⟩ (fun H locs hH => ?_)
      exact g_iret (WM ct h) hd S hr hlk hH dX1_mean_23
  · have hd := if_t c2 hd
    refine lv_iconst (v := (-1 : Int32)) (pc := 7) hx hb dX1_mean_7 (by decide) ?_
    exact g_iret (WM ct h) hd S hr hlk hH dX1_mean_8
section CR_M_mean
variable {p : Program} {l : Launch} {e : Env} {R : Room} {s : State} {m : MethodId} {args : Array Value} {below : List Frame} {meth : Method} {c : Code} {H : Heap} {locs : List Loc} {cells slots : Nat} {Q : State → Prop}
variable {cc : ByteArray} {pc nL idx : Nat} {ls : Array Slot} {rest : List Value} {lv : List (Nat × Value)} {A : Nat → Prop} {H0 : Heap} {own : String}
theorem call_M_mean {D : va_G} {ct : Nat → ClassId} {h : Nat → Nat} {st : MS} {a1 : Int32} {z : (MS × Int32)} (S : CallFix p m c cc nL s args lw_all own) (hl : lv_has ls nL lv) (hK : va_K D clA (tysG ct) s) (hH : GH D A (mAs h) H0 (WM ct h st) H locs) (hlk : Cond.methodLink own idx yX1_mean ∈ lw_all) (hv : M_mean st a1 = some z) (hR : 3 ≤ R.frames ∧ 69 ≤ R.locals) (hsum : (rest.map fun v => v.category).sum ≤ 8) (hdg : decode cc pc = .ok (.invokevirtual idx, 3)) (hf : cells ≤ R.cells ∧ slots ≤ R.slots)
    (k : ∀ (H1 : Heap) (locs1 : List Loc), GH D A (mAs h) H0 (WM ct h z.1) H1 locs1 → W p l e R s m args below meth c H1 locs1 cells slots Q (F0 m (pc + 3) ls (.int z.2 :: rest))) : W p l e R s m args below meth c H locs cells slots Q (F0 m pc ls (.int a1 :: .ref (h 0) :: rest)) :=
  g_calli (av := [.int a1]) S hl gE_0_ok trivial hK hH (met_M_mean l D ct h H.size st a1 z hv) (lw_V hlk q1003 q1004 q70 q1005) rfl rfl ⟨rfl, by decide, by decide, by show (parseMethodDescriptor yX1_mean.desc).map (fun d => d.parameters.length) = some 1; decide +kernel⟩ hR (m_recv hK hH) (fun _ h => Or.inl h) rfl hsum hdg hf k
end CR_M_mean
/-! CapCouncilModel.isText (I)Z -/
def M_isText (a0 : Int32) : Option Int32 :=
  (M_in (a0.toInt64) (0 : Int64) (3 : Int64)).bind fun v1 =>
  bs_gb v1 (some v1)
def rm_M_isText : Room := { frames := 1, cells := 0, slots := 0, locals := 25 }
set_option maxHeartbeats 4000000 in
set_option maxRecDepth 100000 in
theorem met_M_isText (l : Launch) (a0 : Int32) (z : Int32) (hd : M_isText a0 = some z) : Met l yX1_isText (ws_ yX1_isText cX1_isText 1 (some .boolean)) rm_M_isText (va_Pc [.int a0] (fun _ => True)) (vp_Si (fun r => r = z)) 0 0 (fun _ => False) := by
  refine p_met (cc := cX1_isText) (maxL := 1) (ret := (some .boolean)) (by decide) (Nat.le_of_ble_eq_true rfl) ?_
  intro p e U m args below meth c ls S hr hlk hl
  have S : CallFix p m c cX1_isText 1 U args lw_all RX1 := S
  have hx := S.1
  have hb := S.2.1
  have hl : lv_has ls 1 [(0, .int a0)] := hl
  unfold M_isText at hd
  refine lv_iload_n (pc := 0) hx hb dX1_isText_0 rfl (lv_at hl 0 rfl) ?_
  refine lv_i2l (pc := 1) hx hb dX1_isText_1 rfl ?_
  refine lv_lconst (v := (0 : Int64)) (pc := 2) hx hb dX1_isText_2 (by decide) ?_
  refine lv_ldc2 (pc := 3) (own := RX1) (v := (3 : Int64)) hx hb S.2.2.2.1 (S.2.2.2.2 _ q1013) dX1_isText_3 ?_
  obtain ⟨v1, hv1, hd⟩ := bs_bd hd
  refine call_M_in (pc := 6) S hl q974 hv1 ⟨Nat.le_of_ble_eq_true rfl, Nat.le_of_ble_eq_true rfl⟩ (Nat.le_of_ble_eq_true rfl) dX1_isText_6 ⟨Nat.zero_le _, Nat.zero_le _⟩ ?_
  obtain ⟨hn2, hd⟩ := bs_gb_spec hd
  exact r_zret hn2 hd S hr hlk dX1_isText_9
section CR_M_isText
variable {p : Program} {l : Launch} {e : Env} {R : Room} {s : State} {m : MethodId} {args : Array Value} {below : List Frame} {meth : Method} {c : Code} {H : Heap} {locs : List Loc} {cells slots : Nat} {Q : State → Prop}
variable {cc : ByteArray} {pc nL idx : Nat} {ls : Array Slot} {rest : List Value} {lv : List (Nat × Value)} {A : Nat → Prop} {H0 : Heap} {own : String}
theorem call_M_isText {a0 : Int32} {z : Int32} (S : CallFix p m c cc nL s args lw_all own) (hl : lv_has ls nL lv) (hlk : Cond.methodLink own idx yX1_isText ∈ lw_all) (hv : M_isText a0 = some z) (hR : 2 ≤ R.frames ∧ 45 ≤ R.locals) (hsum : (rest.map fun v => v.category).sum ≤ 8) (hdg : decode cc pc = .ok (.invokestatic idx, 3)) (hf : cells ≤ R.cells ∧ slots ≤ R.slots)
    (k : W p l e R s m args below meth c H locs cells slots Q (F0 m (pc + 3) ls (.int z :: rest))) : W p l e R s m args below meth c H locs cells slots Q (F0 m pc ls (.int a0 :: rest)) :=
  p_calli (av := [.int a0]) S hl (met_M_isText l a0 z hv) (lw_S hlk q1011 q70 q1012) rfl rfl ⟨by decide, by decide, by show (parseMethodDescriptor yX1_isText.desc).map (fun d => d.parameters.length) = some 1; decide +kernel⟩ hR rfl hsum hdg hf k
end CR_M_isText
/-! CapCouncilModel.text (II)I -/
def M_text_L34 (a1 : Int32) (a2 : Int32) : Nat → MS → Int32 → Option (MS × Int32)
  | 0, _, _ => none
  | n + 1, st, x3 =>
    if a2 ≤ x3 then
      (some (st, a2))
    else
      ((mast st 5 240 (((60 : Int32) * a1) + x3) (32 : Int32)).bind fun s8 =>
      bs_let (x3 + (1 : Int32)) fun w9 =>
      M_text_L34 a1 a2 n s8 w9)
def M_text (st : MS) (a1 : Int32) (a2 : Int32) : Option (MS × Int32) :=
  (M_isText a1).bind fun v1 =>
  if v1 = 0 then
    (some (st, (-1 : Int32)))
  else
    (if a2 ≤ (60 : Int32) then
      (if 0 ≤ a2 then
        ((mast st 6 4 a1 a2).bind fun s5 =>
        M_text_L34 a1 a2 bs_fu s5 (0 : Int32))
      else
        ((M_finds st (5 : Int32)).bind fun q6 =>
        some (q6.1, q6.2)))
    else
      (some (st, (-1 : Int32))))
def rm_M_text : Room := { frames := 2, cells := 0, slots := 0, locals := 45 }
set_option maxHeartbeats 4000000 in
set_option maxRecDepth 100000 in
theorem met_M_text (l : Launch) (D : va_G) (ct : Nat → ClassId) (h : Nat → Nat) (sz : Nat) (st : MS) (a1 : Int32) (a2 : Int32) (z : (MS × Int32)) (hd : M_text st a1 a2 = some z) : Met l yX1_text (ws_ yX1_text cX1_text 4 (some .int)) rm_M_text (GPre gE_0 D ct (mAs h) (WM ct h st) sz [.ref (h 0), .int a1, .int a2]) (GQi D (mAs h) (mAs h) (WM ct h z.1) sz z.2) 0 0 (gA (mAs h) sz) := by
  refine g_met (cc := cX1_text) (maxL := 4) (ret := (some .int)) (by decide) (Nat.le_of_ble_eq_true rfl) ?_
  intro p e U m args below meth c ls S hr hlk hK hH hE hsz hl
  have S : CallFix p m c cX1_text 4 U args lw_all RX1 := S
  have hx := S.1
  have hb := S.2.1
  have hl : lv_has ls 4 [(0, .ref (h 0)), (1, .int a1), (2, .int a2)] := hl
  have h34 : ∀ (n34 : Nat) (st : MS) (x3 : Int32) (H : Heap) (locs : List Loc) (ls : Array Slot), GH D (gA (mAs h) sz) (mAs h) U.heap (WM ct h st) H locs → lv_has ls 4 [(0, .ref (h 0)), (1, .int a1), (2, .int a2), (3, .int x3)] → M_text_L34 a1 a2 n34 st x3 = some z → W p l e rm_M_text U m args below meth c H locs 0 0 (MQ below (GQi D (mAs h) (mAs h) (WM ct h z.1) sz z.2) args U 0 0 (gA (mAs h) sz)) (F0 m 34 ls []) := by
    intro n34
    induction n34 with
    | zero =>
      intro st x3 H locs ls hH hl hd
      rw [M_text_L34] at hd
      cases hd
    | succ n34 ih34 =>
      intro st x3 H locs ls hH hl hd
      rw [M_text_L34] at hd
      refine lv_iload_n (pc := 34) hx hb dX1_text_34 rfl (lv_at hl 3 rfl) ?_
      refine lv_iload_n (pc := 35) hx hb dX1_text_35 rfl (lv_at hl 2 rfl) ?_
      refine lv_icmp_ge (pc := 36) (tgt := 58) hx hb dX1_text_36 (by decide) (fun c7 => ?_) (fun c7 => ?_)
      · have hd := if_t c7 hd
        refine lv_iload_n (pc := 58) hx hb dX1_text_58 rfl (lv_at hl 2 rfl) ?_
        exact g_iret (WM ct h) hd S hr hlk hH dX1_text_59
      · have hd := if_n c7 hd
        refine lv_aload_n (pc := 39) hx hb dX1_text_39 rfl (lv_at hl 0 rfl) ?_
        refine mg_texts (pc := 40) S hK hH dX1_text_40 ?_
        refine lv_bipush (v := (60 : Int32)) (pc := 43) hx hb dX1_text_43 (by decide) ?_
        refine lv_iload_n (pc := 45) hx hb dX1_text_45 rfl (lv_at hl 1 rfl) ?_
        refine lv_imul (pc := 46) hx hb dX1_text_46 ?_
        refine lv_iload_n (pc := 47) hx hb dX1_text_47 rfl (lv_at hl 3 rfl) ?_
        refine lv_iadd (pc := 48) hx hb dX1_text_48 ?_
        refine lv_bipush (v := (32 : Int32)) (pc := 49) hx hb dX1_text_49 (by decide) ?_
        obtain ⟨s8, hs8, hd⟩ := bs_bd hd
        refine ms_texts (pc := 51) S hK hH hs8 dX1_text_51 (fun H locs hH => ?_)
        obtain ⟨w9, ew9, hd⟩ := bs_let_spec hd
        refine lv_iinc (pc := 52) (v := w9) (lv' := [(3, .int w9), (0, .ref (h 0)), (1, .int a1), (2, .int a2)]) hx hb dX1_text_52 hl (k := 3) rfl (by rw [ew9]; rfl) (by decide) rfl (fun ls hl => ?_)
        refine lv_goto (pc := 55) (tgt := 34) hx hb dX1_text_55 (by decide) ?_
        exact ih34 s8 w9 _ _ _ hH (lv_sub hl [1, 2, 3, 0] rfl) hd
  unfold M_text at hd
  refine lv_iload_n (pc := 0) hx hb dX1_text_0 rfl (lv_at hl 1 rfl) ?_
  obtain ⟨v1, hv1, hd⟩ := bs_bd hd
  refine call_M_isText (pc := 1) S hl q1010 hv1 ⟨Nat.le_of_ble_eq_true rfl, Nat.le_of_ble_eq_true rfl⟩ (Nat.le_of_ble_eq_true rfl) dX1_text_1 ⟨Nat.zero_le _, Nat.zero_le _⟩ ?_
  refine lv_if_eq (pc := 4) (tgt := 13) hx hb dX1_text_4 (by decide) (fun c2 => ?_) (fun c2 => ?_)
  · have hd := if_t c2 hd
    refine lv_iconst (v := (-1 : Int32)) (pc := 13) hx hb dX1_text_13 (by decide) ?_
    exact g_iret (WM ct h) hd S hr hlk hH dX1_text_14
  · have hd := if_n c2 hd
    refine lv_iload_n (pc := 7) hx hb dX1_text_7 rfl (lv_at hl 2 rfl) ?_
    refine lv_bipush (v := (60 : Int32)) (pc := 8) hx hb dX1_text_8 (by decide) ?_
    refine lv_icmp_le (pc := 10) (tgt := 15) hx hb dX1_text_10 (by decide) (fun c3 => ?_) (fun c3 => ?_)
    · have hd := if_t c3 hd
      refine lv_iload_n (pc := 15) hx hb dX1_text_15 rfl (lv_at hl 2 rfl) ?_
      refine lv_if_ge (pc := 16) (tgt := 25) hx hb dX1_text_16 (by decide) (fun c4 => ?_) (fun c4 => ?_)
      · have hd := if_t c4 hd
        refine lv_aload_n (pc := 25) hx hb dX1_text_25 rfl (lv_at hl 0 rfl) ?_
        refine mg_textLong (pc := 26) S hK hH dX1_text_26 ?_
        refine lv_iload_n (pc := 29) hx hb dX1_text_29 rfl (lv_at hl 1 rfl) ?_
        refine lv_iload_n (pc := 30) hx hb dX1_text_30 rfl (lv_at hl 2 rfl) ?_
        obtain ⟨s5, hs5, hd⟩ := bs_bd hd
        refine ms_textLong (pc := 31) S hK hH hs5 dX1_text_31 (fun H locs hH => ?_)
        refine lv_iconst (v := (0 : Int32)) (pc := 32) hx hb dX1_text_32 (by decide) ?_
        refine lv_istore_n (pc := 33) (lv' := [(3, .int (0 : Int32)), (0, .ref (h 0)), (1, .int a1), (2, .int a2)]) hx hb dX1_text_33 rfl hl (by decide) rfl (fun ls hl => ?_)
        exact h34 bs_fu s5 (0 : Int32) _ _ _ hH (lv_sub hl [1, 2, 3, 0] rfl) hd
      · have hd := if_n c4 hd
        refine lv_aload_n (pc := 19) hx hb dX1_text_19 rfl (lv_at hl 0 rfl) ?_
        refine lv_iconst (v := (5 : Int32)) (pc := 20) hx hb dX1_text_20 (by decide) ?_
        obtain ⟨q6, hq6, hd⟩ := bs_bd hd
        refine call_M_finds (pc := 21) S hl hK hH q977 hq6 ⟨Nat.le_of_ble_eq_true rfl, Nat.le_of_ble_eq_true rfl⟩ (Nat.le_of_ble_eq_true rfl) dX1_text_21 ⟨Nat.zero_le _, Nat.zero_le _⟩ (fun H locs hH => ?_)
        exact g_iret (WM ct h) hd S hr hlk hH dX1_text_24
    · have hd := if_n c3 hd
      refine lv_iconst (v := (-1 : Int32)) (pc := 13) hx hb dX1_text_13 (by decide) ?_
      exact g_iret (WM ct h) hd S hr hlk hH dX1_text_14
section CR_M_text
variable {p : Program} {l : Launch} {e : Env} {R : Room} {s : State} {m : MethodId} {args : Array Value} {below : List Frame} {meth : Method} {c : Code} {H : Heap} {locs : List Loc} {cells slots : Nat} {Q : State → Prop}
variable {cc : ByteArray} {pc nL idx : Nat} {ls : Array Slot} {rest : List Value} {lv : List (Nat × Value)} {A : Nat → Prop} {H0 : Heap} {own : String}
theorem call_M_text {D : va_G} {ct : Nat → ClassId} {h : Nat → Nat} {st : MS} {a1 : Int32} {a2 : Int32} {z : (MS × Int32)} (S : CallFix p m c cc nL s args lw_all own) (hl : lv_has ls nL lv) (hK : va_K D clA (tysG ct) s) (hH : GH D A (mAs h) H0 (WM ct h st) H locs) (hlk : Cond.methodLink own idx yX1_text ∈ lw_all) (hv : M_text st a1 a2 = some z) (hR : 3 ≤ R.frames ∧ 68 ≤ R.locals) (hsum : (rest.map fun v => v.category).sum ≤ 8) (hdg : decode cc pc = .ok (.invokevirtual idx, 3)) (hf : cells ≤ R.cells ∧ slots ≤ R.slots)
    (k : ∀ (H1 : Heap) (locs1 : List Loc), GH D A (mAs h) H0 (WM ct h z.1) H1 locs1 → W p l e R s m args below meth c H1 locs1 cells slots Q (F0 m (pc + 3) ls (.int z.2 :: rest))) : W p l e R s m args below meth c H locs cells slots Q (F0 m pc ls (.int a2 :: .int a1 :: .ref (h 0) :: rest)) :=
  g_calli (av := [.int a1, .int a2]) S hl gE_0_ok trivial hK hH (met_M_text l D ct h H.size st a1 a2 z hv) (lw_V hlk q1007 q1008 q70 q1009) rfl rfl ⟨rfl, by decide, by decide, by show (parseMethodDescriptor yX1_text.desc).map (fun d => d.parameters.length) = some 2; decide +kernel⟩ hR (m_recv hK hH) (fun _ h => Or.inl h) rfl hsum hdg hf k
end CR_M_text
/-! CapCouncilModel.put (III)I -/
def M_put (st : MS) (a1 : Int32) (a2 : Int32) (a3 : Int32) : Option (MS × Int32) :=
  (M_isText a1).bind fun v1 =>
  if v1 = 0 then
    (some (st, (-1 : Int32)))
  else
    ((bs_ld (ma st 6) 4 a1).bind fun v3 =>
    if 0 ≤ v3 then
      ((bs_ld (ma st 6) 4 a1).bind fun v5 =>
      (M_in (a2.toInt64) (0 : Int64) (((v5 - (1 : Int32))).toInt64)).bind fun v6 =>
      if v6 = 0 then
        ((M_finds st (2 : Int32)).bind fun q13 =>
        some (q13.1, q13.2))
      else
        ((bs_ld (ma st 5) 240 (((60 : Int32) * a1) + a2)).bind fun v8 =>
        bs_let (a3 &&& (255 : Int32)) fun w9 =>
        if w9 ≤ (127 : Int32) then
          ((mast st 5 240 (((60 : Int32) * a1) + a2) w9).bind fun s11 =>
          some (s11, (v8 + (1000 : Int32))))
        else
          ((mast st 5 240 (((60 : Int32) * a1) + a2) (w9 - (256 : Int32))).bind fun s12 =>
          some (s12, (v8 + (1000 : Int32))))))
    else
      ((M_finds st (1 : Int32)).bind fun q14 =>
      some (q14.1, q14.2)))
def rm_M_put : Room := { frames := 2, cells := 0, slots := 0, locals := 45 }
set_option maxHeartbeats 4000000 in
set_option maxRecDepth 100000 in
theorem met_M_put (l : Launch) (D : va_G) (ct : Nat → ClassId) (h : Nat → Nat) (sz : Nat) (st : MS) (a1 : Int32) (a2 : Int32) (a3 : Int32) (z : (MS × Int32)) (hd : M_put st a1 a2 a3 = some z) : Met l yX1_put (ws_ yX1_put cX1_put 6 (some .int)) rm_M_put (GPre gE_0 D ct (mAs h) (WM ct h st) sz [.ref (h 0), .int a1, .int a2, .int a3]) (GQi D (mAs h) (mAs h) (WM ct h z.1) sz z.2) 0 0 (gA (mAs h) sz) := by
  refine g_met (cc := cX1_put) (maxL := 6) (ret := (some .int)) (by decide) (Nat.le_of_ble_eq_true rfl) ?_
  intro p e U m args below meth c ls S hr hlk hK hH hE hsz hl
  have S : CallFix p m c cX1_put 6 U args lw_all RX1 := S
  have hx := S.1
  have hb := S.2.1
  have hl : lv_has ls 6 [(0, .ref (h 0)), (1, .int a1), (2, .int a2), (3, .int a3)] := hl
  unfold M_put at hd
  refine lv_iload_n (pc := 0) hx hb dX1_put_0 rfl (lv_at hl 1 rfl) ?_
  obtain ⟨v1, hv1, hd⟩ := bs_bd hd
  refine call_M_isText (pc := 1) S hl q1010 hv1 ⟨Nat.le_of_ble_eq_true rfl, Nat.le_of_ble_eq_true rfl⟩ (Nat.le_of_ble_eq_true rfl) dX1_put_1 ⟨Nat.zero_le _, Nat.zero_le _⟩ ?_
  refine lv_if_ne (pc := 4) (tgt := 9) hx hb dX1_put_4 (by decide) (fun c2 => ?_) (fun c2 => ?_)
  · have hd := if_n c2 hd
    refine lv_aload_n (pc := 9) hx hb dX1_put_9 rfl (lv_at hl 0 rfl) ?_
    refine mg_textLong (pc := 10) S hK hH dX1_put_10 ?_
    refine lv_iload_n (pc := 13) hx hb dX1_put_13 rfl (lv_at hl 1 rfl) ?_
    obtain ⟨v3, hv3, hd⟩ := bs_bd hd
    refine ml_textLong (pc := 14) S hK hH hv3 dX1_put_14 ?_
    refine lv_if_ge (pc := 15) (tgt := 24) hx hb dX1_put_15 (by decide) (fun c4 => ?_) (fun c4 => ?_)
    · have hd := if_t c4 hd
      refine lv_iload_n (pc := 24) hx hb dX1_put_24 rfl (lv_at hl 2 rfl) ?_
      refine lv_i2l (pc := 25) hx hb dX1_put_25 rfl ?_
      refine lv_lconst (v := (0 : Int64)) (pc := 26) hx hb dX1_put_26 (by decide) ?_
      refine lv_aload_n (pc := 27) hx hb dX1_put_27 rfl (lv_at hl 0 rfl) ?_
      refine mg_textLong (pc := 28) S hK hH dX1_put_28 ?_
      refine lv_iload_n (pc := 31) hx hb dX1_put_31 rfl (lv_at hl 1 rfl) ?_
      obtain ⟨v5, hv5, hd⟩ := bs_bd hd
      refine ml_textLong (pc := 32) S hK hH hv5 dX1_put_32 ?_
      refine lv_iconst (v := (1 : Int32)) (pc := 33) hx hb dX1_put_33 (by decide) ?_
      refine lv_isub (pc := 34) hx hb dX1_put_34 ?_
      refine lv_i2l (pc := 35) hx hb dX1_put_35 rfl ?_
      obtain ⟨v6, hv6, hd⟩ := bs_bd hd
      refine call_M_in (pc := 36) S hl q974 hv6 ⟨Nat.le_of_ble_eq_true rfl, Nat.le_of_ble_eq_true rfl⟩ (Nat.le_of_ble_eq_true rfl) dX1_put_36 ⟨Nat.zero_le _, Nat.zero_le _⟩ ?_
      refine lv_if_ne (pc := 39) (tgt := 48) hx hb dX1_put_39 (by decide) (fun c7 => ?_) (fun c7 => ?_)
      · have hd := if_n c7 hd
        refine lv_aload_n (pc := 48) hx hb dX1_put_48 rfl (lv_at hl 0 rfl) ?_
        refine mg_texts (pc := 49) S hK hH dX1_put_49 ?_
        refine lv_bipush (v := (60 : Int32)) (pc := 52) hx hb dX1_put_52 (by decide) ?_
        refine lv_iload_n (pc := 54) hx hb dX1_put_54 rfl (lv_at hl 1 rfl) ?_
        refine lv_imul (pc := 55) hx hb dX1_put_55 ?_
        refine lv_iload_n (pc := 56) hx hb dX1_put_56 rfl (lv_at hl 2 rfl) ?_
        refine lv_iadd (pc := 57) hx hb dX1_put_57 ?_
        obtain ⟨v8, hv8, hd⟩ := bs_bd hd
        refine ml_texts (pc := 58) S hK hH hv8 dX1_put_58 ?_
        refine lv_istore (pc := 59) (lv' := [(4, .int v8), (0, .ref (h 0)), (1, .int a1), (2, .int a2), (3, .int a3)]) hx hb dX1_put_59 hl (by decide) rfl (fun ls hl => ?_)
        refine lv_iload_n (pc := 61) hx hb dX1_put_61 rfl (lv_at hl 4 rfl) ?_
        refine lv_sipush (v := (255 : Int32)) (pc := 62) hx hb dX1_put_62 (by decide) ?_
        refine lv_iand (pc := 65) hx hb dX1_put_65 ?_
        obtain ⟨w9, ew9, hd⟩ := bs_let_spec hd
        refine lv_topE (pc := 66) ew9 ?_
        refine lv_istore (pc := 66) (lv' := [(5, .int w9), (4, .int v8), (0, .ref (h 0)), (1, .int a1), (2, .int a2), (3, .int a3)]) hx hb dX1_put_66 hl (by decide) rfl (fun ls hl => ?_)
        refine lv_aload_n (pc := 68) hx hb dX1_put_68 rfl (lv_at hl 2 rfl) ?_
        refine mg_texts (pc := 69) S hK hH dX1_put_69 ?_
        refine lv_bipush (v := (60 : Int32)) (pc := 72) hx hb dX1_put_72 (by decide) ?_
        refine lv_iload_n (pc := 74) hx hb dX1_put_74 rfl (lv_at hl 3 rfl) ?_
        refine lv_imul (pc := 75) hx hb dX1_put_75 ?_
        refine lv_iload_n (pc := 76) hx hb dX1_put_76 rfl (lv_at hl 4 rfl) ?_
        refine lv_iadd (pc := 77) hx hb dX1_put_77 ?_
        refine lv_iload (pc := 78) hx hb dX1_put_78 (lv_at hl 0 rfl) ?_
        refine lv_bipush (v := (127 : Int32)) (pc := 80) hx hb dX1_put_80 (by decide) ?_
        refine lv_icmp_le (pc := 82) (tgt := 94) hx hb dX1_put_82 (by decide) (fun c10 => ?_) (fun c10 => ?_)
        · have hd := if_t c10 hd
          refine lv_iload (pc := 94) hx hb dX1_put_94 (lv_at hl 0 rfl) ?_
          obtain ⟨s11, hs11, hd⟩ := bs_bd hd
          refine ms_texts (pc := 96) S hK hH hs11 dX1_put_96 (fun H locs hH => ?_)
          refine lv_iload (pc := 97) hx hb dX1_put_97 (lv_at hl 1 rfl) ?_
          refine lv_sipush (v := (1000 : Int32)) (pc := 99) hx hb dX1_put_99 (by decide) ?_
          refine lv_iadd (pc := 102) hx hb dX1_put_102 ?_
          exact g_iret (WM ct h) hd S hr hlk hH dX1_put_103
        · have hd := if_n c10 hd
          refine lv_iload (pc := 85) hx hb dX1_put_85 (lv_at hl 0 rfl) ?_
          refine lv_sipush (v := (256 : Int32)) (pc := 87) hx hb dX1_put_87 (by decide) ?_
          refine lv_isub (pc := 90) hx hb dX1_put_90 ?_
          refine lv_goto (pc := 91) (tgt := 96) hx hb dX1_put_91 (by decide) ?_
          obtain ⟨s12, hs12, hd⟩ := bs_bd hd
          refine ms_texts (pc := 96) S hK hH hs12 dX1_put_96 (fun H locs hH => ?_)
          refine lv_iload (pc := 97) hx hb dX1_put_97 (lv_at hl 1 rfl) ?_
          refine lv_sipush (v := (1000 : Int32)) (pc := 99) hx hb dX1_put_99 (by decide) ?_
          refine lv_iadd (pc := 102) hx hb dX1_put_102 ?_
          exact g_iret (WM ct h) hd S hr hlk hH dX1_put_103
      · have hd := if_t c7 hd
        refine lv_aload_n (pc := 42) hx hb dX1_put_42 rfl (lv_at hl 0 rfl) ?_
        refine lv_iconst (v := (2 : Int32)) (pc := 43) hx hb dX1_put_43 (by decide) ?_
        obtain ⟨q13, hq13, hd⟩ := bs_bd hd
        refine call_M_finds (pc := 44) S hl hK hH q977 hq13 ⟨Nat.le_of_ble_eq_true rfl, Nat.le_of_ble_eq_true rfl⟩ (Nat.le_of_ble_eq_true rfl) dX1_put_44 ⟨Nat.zero_le _, Nat.zero_le _⟩ (fun H locs hH => ?_)
        exact g_iret (WM ct h) hd S hr hlk hH dX1_put_47
    · have hd := if_n c4 hd
      refine lv_aload_n (pc := 18) hx hb dX1_put_18 rfl (lv_at hl 0 rfl) ?_
      refine lv_iconst (v := (1 : Int32)) (pc := 19) hx hb dX1_put_19 (by decide) ?_
      obtain ⟨q14, hq14, hd⟩ := bs_bd hd
      refine call_M_finds (pc := 20) S hl hK hH q977 hq14 ⟨Nat.le_of_ble_eq_true rfl, Nat.le_of_ble_eq_true rfl⟩ (Nat.le_of_ble_eq_true rfl) dX1_put_20 ⟨Nat.zero_le _, Nat.zero_le _⟩ (fun H locs hH => ?_)
      exact g_iret (WM ct h) hd S hr hlk hH dX1_put_23
  · have hd := if_t c2 hd
    refine lv_iconst (v := (-1 : Int32)) (pc := 7) hx hb dX1_put_7 (by decide) ?_
    exact g_iret (WM ct h) hd S hr hlk hH dX1_put_8
section CR_M_put
variable {p : Program} {l : Launch} {e : Env} {R : Room} {s : State} {m : MethodId} {args : Array Value} {below : List Frame} {meth : Method} {c : Code} {H : Heap} {locs : List Loc} {cells slots : Nat} {Q : State → Prop}
variable {cc : ByteArray} {pc nL idx : Nat} {ls : Array Slot} {rest : List Value} {lv : List (Nat × Value)} {A : Nat → Prop} {H0 : Heap} {own : String}
theorem call_M_put {D : va_G} {ct : Nat → ClassId} {h : Nat → Nat} {st : MS} {a1 : Int32} {a2 : Int32} {a3 : Int32} {z : (MS × Int32)} (S : CallFix p m c cc nL s args lw_all own) (hl : lv_has ls nL lv) (hK : va_K D clA (tysG ct) s) (hH : GH D A (mAs h) H0 (WM ct h st) H locs) (hlk : Cond.methodLink own idx yX1_put ∈ lw_all) (hv : M_put st a1 a2 a3 = some z) (hR : 3 ≤ R.frames ∧ 70 ≤ R.locals) (hsum : (rest.map fun v => v.category).sum ≤ 8) (hdg : decode cc pc = .ok (.invokevirtual idx, 3)) (hf : cells ≤ R.cells ∧ slots ≤ R.slots)
    (k : ∀ (H1 : Heap) (locs1 : List Loc), GH D A (mAs h) H0 (WM ct h z.1) H1 locs1 → W p l e R s m args below meth c H1 locs1 cells slots Q (F0 m (pc + 3) ls (.int z.2 :: rest))) : W p l e R s m args below meth c H locs cells slots Q (F0 m pc ls (.int a3 :: .int a2 :: .int a1 :: .ref (h 0) :: rest)) :=
  g_calli (av := [.int a1, .int a2, .int a3]) S hl gE_0_ok trivial hK hH (met_M_put l D ct h H.size st a1 a2 a3 z hv) (lw_V hlk q1015 q1016 q70 q1017) rfl rfl ⟨rfl, by decide, by decide, by show (parseMethodDescriptor yX1_put.desc).map (fun d => d.parameters.length) = some 3; decide +kernel⟩ hR (m_recv hK hH) (fun _ h => Or.inl h) rfl hsum hdg hf k
end CR_M_put
/-! CapCouncilModel.here (I)I -/
def M_here (st : MS) (a1 : Int32) : Option Int32 :=
  (bs_ld (ma st 6) 4 a1).bind fun v1 =>
  if v1 ≤ (mi st 2) then
    (some (-9 : Int32))
  else
    ((bs_ld (ma st 5) 240 (((60 : Int32) * a1) + (mi st 2))).bind fun v3 =>
    some v3)
def rm_M_here : Room := { frames := 0, cells := 0, slots := 0, locals := 0 }
set_option maxHeartbeats 4000000 in
set_option maxRecDepth 100000 in
theorem met_M_here (l : Launch) (D : va_G) (ct : Nat → ClassId) (h : Nat → Nat) (sz : Nat) (st : MS) (a1 : Int32) (z : Int32) (hd : M_here st a1 = some z) : Met l yX1_here (ws_ yX1_here cX1_here 2 (some .int)) rm_M_here (GPre gE_0 D ct (mAs h) (WM ct h st) sz [.ref (h 0), .int a1]) (vp_Si (fun r => r = z)) 0 0 (fun _ => False) := by
  refine g_met (cc := cX1_here) (maxL := 2) (ret := (some .int)) (by decide) (Nat.le_of_ble_eq_true rfl) ?_
  intro p e U m args below meth c ls S hr hlk hK hH hE hsz hl
  have S : CallFix p m c cX1_here 2 U args lw_all RX1 := S
  have hx := S.1
  have hb := S.2.1
  have hl : lv_has ls 2 [(0, .ref (h 0)), (1, .int a1)] := hl
  unfold M_here at hd
  refine lv_aload_n (pc := 0) hx hb dX1_here_0 rfl (lv_at hl 0 rfl) ?_
  refine mg_place (pc := 1) S hK hH dX1_here_1 ?_
  refine lv_aload_n (pc := 4) hx hb dX1_here_4 rfl (lv_at hl 0 rfl) ?_
  refine mg_textLong (pc := 5) S hK hH dX1_here_5 ?_
  refine lv_iload_n (pc := 8) hx hb dX1_here_8 rfl (lv_at hl 1 rfl) ?_
  obtain ⟨v1, hv1, hd⟩ := bs_bd hd
  refine ml_textLong (pc := 9) S hK hH hv1 dX1_here_9 ?_
  refine lv_icmp_ge (pc := 10) (tgt := 30) hx hb dX1_here_10 (by decide) (fun c2 => ?_) (fun c2 => ?_)
  · have hd := if_t c2 hd
    refine lv_bipush (v := (-9 : Int32)) (pc := 30) hx hb dX1_here_30 (by decide) ?_
    exact r_iret hd S hr hlk dX1_here_32
  · have hd := if_n c2 hd
    refine lv_aload_n (pc := 13) hx hb dX1_here_13 rfl (lv_at hl 0 rfl) ?_
    refine mg_texts (pc := 14) S hK hH dX1_here_14 ?_
    refine lv_bipush (v := (60 : Int32)) (pc := 17) hx hb dX1_here_17 (by decide) ?_
    refine lv_iload_n (pc := 19) hx hb dX1_here_19 rfl (lv_at hl 1 rfl) ?_
    refine lv_imul (pc := 20) hx hb dX1_here_20 ?_
    refine lv_aload_n (pc := 21) hx hb dX1_here_21 rfl (lv_at hl 0 rfl) ?_
    refine mg_place (pc := 22) S hK hH dX1_here_22 ?_
    refine lv_iadd (pc := 25) hx hb dX1_here_25 ?_
    obtain ⟨v3, hv3, hd⟩ := bs_bd hd
    refine ml_texts (pc := 26) S hK hH hv3 dX1_here_26 ?_
    refine lv_goto (pc := 27) (tgt := 32) hx hb dX1_here_27 (by decide) ?_
    exact r_iret hd S hr hlk dX1_here_32
section CR_M_here
variable {p : Program} {l : Launch} {e : Env} {R : Room} {s : State} {m : MethodId} {args : Array Value} {below : List Frame} {meth : Method} {c : Code} {H : Heap} {locs : List Loc} {cells slots : Nat} {Q : State → Prop}
variable {cc : ByteArray} {pc nL idx : Nat} {ls : Array Slot} {rest : List Value} {lv : List (Nat × Value)} {A : Nat → Prop} {H0 : Heap} {own : String}
theorem call_M_here {D : va_G} {ct : Nat → ClassId} {h : Nat → Nat} {st : MS} {a1 : Int32} {z : Int32} (S : CallFix p m c cc nL s args lw_all own) (hl : lv_has ls nL lv) (hK : va_K D clA (tysG ct) s) (hH : GH D A (mAs h) H0 (WM ct h st) H locs) (hlk : Cond.methodLink own idx yX1_here ∈ lw_all) (hv : M_here st a1 = some z) (hR : 1 ≤ R.frames ∧ 21 ≤ R.locals) (hsum : (rest.map fun v => v.category).sum ≤ 8) (hdg : decode cc pc = .ok (.invokevirtual idx, 3)) (hf : cells ≤ R.cells ∧ slots ≤ R.slots)
    (k : W p l e R s m args below meth c H locs cells slots Q (F0 m (pc + 3) ls (.int z :: rest))) : W p l e R s m args below meth c H locs cells slots Q (F0 m pc ls (.int a1 :: .ref (h 0) :: rest)) :=
  r_calli (av := [.int a1]) S hl gE_0_ok trivial hK hH (met_M_here l D ct h H.size st a1 z hv) (lw_V hlk q1032 qs40 q70 q1033) rfl rfl ⟨rfl, by decide, by decide, by show (parseMethodDescriptor yX1_here.desc).map (fun d => d.parameters.length) = some 1; decide +kernel⟩ hR (m_recv hK hH) rfl hsum hdg hf k
end CR_M_here
/-! CapCouncilModel.skip (I)V -/
def M_skip_L0 (a1 : Int32) : Nat → MS → Option MS
  | 0, _ => none
  | n + 1, st =>
    (M_here st a1).bind fun v1 =>
    if v1 = (32 : Int32) then
      (bs_let ((mi st 2) + (1 : Int32)) fun w3 =>
      bs_let (smi st 2 w3) fun s4 =>
      M_skip_L0 a1 n s4)
    else
      (some st)
def M_skip (st : MS) (a1 : Int32) : Option MS :=
  M_skip_L0 a1 bs_fu st
def rm_M_skip : Room := { frames := 1, cells := 0, slots := 0, locals := 21 }
set_option maxHeartbeats 4000000 in
set_option maxRecDepth 100000 in
theorem met_M_skip (l : Launch) (D : va_G) (ct : Nat → ClassId) (h : Nat → Nat) (sz : Nat) (st : MS) (a1 : Int32) (z : MS) (hd : M_skip st a1 = some z) : Met l yX1_skip (ws_ yX1_skip cX1_skip 2 none) rm_M_skip (GPre gE_0 D ct (mAs h) (WM ct h st) sz [.ref (h 0), .int a1]) (GQv D (mAs h) (mAs h) (WM ct h z) sz) 0 0 (gA (mAs h) sz) := by
  refine g_met (cc := cX1_skip) (maxL := 2) (ret := none) (by decide) (Nat.le_of_ble_eq_true rfl) ?_
  intro p e U m args below meth c ls S hr hlk hK hH hE hsz hl
  have S : CallFix p m c cX1_skip 2 U args lw_all RX1 := S
  have hx := S.1
  have hb := S.2.1
  have hl : lv_has ls 2 [(0, .ref (h 0)), (1, .int a1)] := hl
  have h0 : ∀ (n0 : Nat) (st : MS) (H : Heap) (locs : List Loc) (ls : Array Slot), GH D (gA (mAs h) sz) (mAs h) U.heap (WM ct h st) H locs → lv_has ls 2 [(0, .ref (h 0)), (1, .int a1)] → M_skip_L0 a1 n0 st = some z → W p l e rm_M_skip U m args below meth c H locs 0 0 (MQ below (GQv D (mAs h) (mAs h) (WM ct h z) sz) args U 0 0 (gA (mAs h) sz)) (F0 m 0 ls []) := by
    intro n0
    induction n0 with
    | zero =>
      intro st H locs ls hH hl hd
      rw [M_skip_L0] at hd
      cases hd
    | succ n0 ih0 =>
      intro st H locs ls hH hl hd
      rw [M_skip_L0] at hd
      refine lv_aload_n (pc := 0) hx hb dX1_skip_0 rfl (lv_at hl 0 rfl) ?_
      refine lv_iload_n (pc := 1) hx hb dX1_skip_1 rfl (lv_at hl 1 rfl) ?_
      obtain ⟨v1, hv1, hd⟩ := bs_bd hd
      refine call_M_here (pc := 2) S hl hK hH q1030 hv1 ⟨Nat.le_of_ble_eq_true rfl, Nat.le_of_ble_eq_true rfl⟩ (Nat.le_of_ble_eq_true rfl) dX1_skip_2 ⟨Nat.zero_le _, Nat.zero_le _⟩ ?_
      refine lv_bipush (v := (32 : Int32)) (pc := 5) hx hb dX1_skip_5 (by decide) ?_
      refine lv_icmp_ne (pc := 7) (tgt := 23) hx hb dX1_skip_7 (by decide) (fun c2 => ?_) (fun c2 => ?_)
      · have hd := if_n c2 hd
        exact g_vret (WM ct h) hd S hr hlk hH dX1_skip_23
      · have hd := if_t c2 hd
        refine lv_aload_n (pc := 10) hx hb dX1_skip_10 rfl (lv_at hl 0 rfl) ?_
        refine lv_dup (pc := 11) hx hb dX1_skip_11 rfl ?_
        refine mg_place (pc := 12) S hK hH dX1_skip_12 ?_
        refine lv_iconst (v := (1 : Int32)) (pc := 15) hx hb dX1_skip_15 (by decide) ?_
        refine lv_iadd (pc := 16) hx hb dX1_skip_16 ?_
        obtain ⟨w3, ew3, hd⟩ := bs_let_spec hd
        refine lv_topE (pc := 17) ew3 ?_
        obtain ⟨s4, es4, hd⟩ := bs_let_spec hd
        refine mp_place (pc := 17) S hK hH dX1_skip_17 es4 (fun H locs hH => ?_)
        refine lv_goto (pc := 20) (tgt := 0) hx hb dX1_skip_20 (by decide) ?_
        exact ih0 s4 _ _ _ hH (lv_sub hl [0, 1] rfl) hd
  unfold M_skip at hd
  exact h0 bs_fu st _ _ _ hH (lv_sub hl [0, 1] rfl) hd
section CR_M_skip
variable {p : Program} {l : Launch} {e : Env} {R : Room} {s : State} {m : MethodId} {args : Array Value} {below : List Frame} {meth : Method} {c : Code} {H : Heap} {locs : List Loc} {cells slots : Nat} {Q : State → Prop}
variable {cc : ByteArray} {pc nL idx : Nat} {ls : Array Slot} {rest : List Value} {lv : List (Nat × Value)} {A : Nat → Prop} {H0 : Heap} {own : String}
theorem call_M_skip {D : va_G} {ct : Nat → ClassId} {h : Nat → Nat} {st : MS} {a1 : Int32} {z : MS} (S : CallFix p m c cc nL s args lw_all own) (hl : lv_has ls nL lv) (hK : va_K D clA (tysG ct) s) (hH : GH D A (mAs h) H0 (WM ct h st) H locs) (hlk : Cond.methodLink own idx yX1_skip ∈ lw_all) (hv : M_skip st a1 = some z) (hR : 2 ≤ R.frames ∧ 42 ≤ R.locals) (hsum : (rest.map fun v => v.category).sum ≤ 8) (hdg : decode cc pc = .ok (.invokevirtual idx, 3)) (hf : cells ≤ R.cells ∧ slots ≤ R.slots)
    (k : ∀ (H1 : Heap) (locs1 : List Loc), GH D A (mAs h) H0 (WM ct h z) H1 locs1 → W p l e R s m args below meth c H1 locs1 cells slots Q (F0 m (pc + 3) ls (rest))) : W p l e R s m args below meth c H locs cells slots Q (F0 m pc ls (.int a1 :: .ref (h 0) :: rest)) :=
  g_callv (av := [.int a1]) S hl gE_0_ok trivial hK hH (met_M_skip l D ct h H.size st a1 z hv) (lw_V hlk q1028 qs39 q70 q1029) rfl rfl ⟨rfl, by decide, by decide, by show (parseMethodDescriptor yX1_skip.desc).map (fun d => d.parameters.length) = some 1; decide +kernel⟩ hR (m_recv hK hH) (fun _ h => Or.inl h) rfl hsum hdg hf k
end CR_M_skip
/-! CapCouncilModel.kindBy (I)I -/
def M_kindBy (a0 : Int32) : Option Int32 :=
  if a0 = (114 : Int32) then
    (some (0 : Int32))
  else
    (if a0 = (111 : Int32) then
      (some (1 : Int32))
    else
      (if a0 = (97 : Int32) then
        (some (2 : Int32))
      else
        (if a0 = (112 : Int32) then
          (some (3 : Int32))
        else
          (if a0 = (100 : Int32) then
            (some (4 : Int32))
          else
            (if a0 = (119 : Int32) then
              (some (5 : Int32))
            else
              (some (-9 : Int32)))))))
def rm_M_kindBy : Room := { frames := 0, cells := 0, slots := 0, locals := 0 }
set_option maxHeartbeats 4000000 in
set_option maxRecDepth 100000 in
theorem met_M_kindBy (l : Launch) (a0 : Int32) (z : Int32) (hd : M_kindBy a0 = some z) : Met l yX1_kindBy (ws_ yX1_kindBy cX1_kindBy 1 (some .int)) rm_M_kindBy (va_Pc [.int a0] (fun _ => True)) (vp_Si (fun r => r = z)) 0 0 (fun _ => False) := by
  refine p_met (cc := cX1_kindBy) (maxL := 1) (ret := (some .int)) (by decide) (Nat.le_of_ble_eq_true rfl) ?_
  intro p e U m args below meth c ls S hr hlk hl
  have S : CallFix p m c cX1_kindBy 1 U args lw_all RX1 := S
  have hx := S.1
  have hb := S.2.1
  have hl : lv_has ls 1 [(0, .int a0)] := hl
  unfold M_kindBy at hd
  refine lv_iload_n (pc := 0) hx hb dX1_kindBy_0 rfl (lv_at hl 0 rfl) ?_
  refine lv_bipush (v := (114 : Int32)) (pc := 1) hx hb dX1_kindBy_1 (by decide) ?_
  refine lv_icmp_ne (pc := 3) (tgt := 10) hx hb dX1_kindBy_3 (by decide) (fun c1 => ?_) (fun c1 => ?_)
  · have hd := if_n c1 hd
    refine lv_iload_n (pc := 10) hx hb dX1_kindBy_10 rfl (lv_at hl 0 rfl) ?_
    refine lv_bipush (v := (111 : Int32)) (pc := 11) hx hb dX1_kindBy_11 (by decide) ?_
    refine lv_icmp_ne (pc := 13) (tgt := 20) hx hb dX1_kindBy_13 (by decide) (fun c2 => ?_) (fun c2 => ?_)
    · have hd := if_n c2 hd
      refine lv_iload_n (pc := 20) hx hb dX1_kindBy_20 rfl (lv_at hl 0 rfl) ?_
      refine lv_bipush (v := (97 : Int32)) (pc := 21) hx hb dX1_kindBy_21 (by decide) ?_
      refine lv_icmp_ne (pc := 23) (tgt := 30) hx hb dX1_kindBy_23 (by decide) (fun c3 => ?_) (fun c3 => ?_)
      · have hd := if_n c3 hd
        refine lv_iload_n (pc := 30) hx hb dX1_kindBy_30 rfl (lv_at hl 0 rfl) ?_
        refine lv_bipush (v := (112 : Int32)) (pc := 31) hx hb dX1_kindBy_31 (by decide) ?_
        refine lv_icmp_ne (pc := 33) (tgt := 40) hx hb dX1_kindBy_33 (by decide) (fun c4 => ?_) (fun c4 => ?_)
        · have hd := if_n c4 hd
          refine lv_iload_n (pc := 40) hx hb dX1_kindBy_40 rfl (lv_at hl 0 rfl) ?_
          refine lv_bipush (v := (100 : Int32)) (pc := 41) hx hb dX1_kindBy_41 (by decide) ?_
          refine lv_icmp_ne (pc := 43) (tgt := 50) hx hb dX1_kindBy_43 (by decide) (fun c5 => ?_) (fun c5 => ?_)
          · have hd := if_n c5 hd
            refine lv_iload_n (pc := 50) hx hb dX1_kindBy_50 rfl (lv_at hl 0 rfl) ?_
            refine lv_bipush (v := (119 : Int32)) (pc := 51) hx hb dX1_kindBy_51 (by decide) ?_
            refine lv_icmp_ne (pc := 53) (tgt := 60) hx hb dX1_kindBy_53 (by decide) (fun c6 => ?_) (fun c6 => ?_)
            · have hd := if_n c6 hd
              refine lv_bipush (v := (-9 : Int32)) (pc := 60) hx hb dX1_kindBy_60 (by decide) ?_
              exact r_iret hd S hr hlk dX1_kindBy_62
            · have hd := if_t c6 hd
              refine lv_iconst (v := (5 : Int32)) (pc := 56) hx hb dX1_kindBy_56 (by decide) ?_
              refine lv_goto (pc := 57) (tgt := 62) hx hb dX1_kindBy_57 (by decide) ?_
              exact r_iret hd S hr hlk dX1_kindBy_62
          · have hd := if_t c5 hd
            refine lv_iconst (v := (4 : Int32)) (pc := 46) hx hb dX1_kindBy_46 (by decide) ?_
            refine lv_goto (pc := 47) (tgt := 62) hx hb dX1_kindBy_47 (by decide) ?_
            exact r_iret hd S hr hlk dX1_kindBy_62
        · have hd := if_t c4 hd
          refine lv_iconst (v := (3 : Int32)) (pc := 36) hx hb dX1_kindBy_36 (by decide) ?_
          refine lv_goto (pc := 37) (tgt := 62) hx hb dX1_kindBy_37 (by decide) ?_
          exact r_iret hd S hr hlk dX1_kindBy_62
      · have hd := if_t c3 hd
        refine lv_iconst (v := (2 : Int32)) (pc := 26) hx hb dX1_kindBy_26 (by decide) ?_
        refine lv_goto (pc := 27) (tgt := 62) hx hb dX1_kindBy_27 (by decide) ?_
        exact r_iret hd S hr hlk dX1_kindBy_62
    · have hd := if_t c2 hd
      refine lv_iconst (v := (1 : Int32)) (pc := 16) hx hb dX1_kindBy_16 (by decide) ?_
      refine lv_goto (pc := 17) (tgt := 62) hx hb dX1_kindBy_17 (by decide) ?_
      exact r_iret hd S hr hlk dX1_kindBy_62
  · have hd := if_t c1 hd
    refine lv_iconst (v := (0 : Int32)) (pc := 6) hx hb dX1_kindBy_6 (by decide) ?_
    refine lv_goto (pc := 7) (tgt := 62) hx hb dX1_kindBy_7 (by decide) ?_
    exact r_iret hd S hr hlk dX1_kindBy_62
section CR_M_kindBy
variable {p : Program} {l : Launch} {e : Env} {R : Room} {s : State} {m : MethodId} {args : Array Value} {below : List Frame} {meth : Method} {c : Code} {H : Heap} {locs : List Loc} {cells slots : Nat} {Q : State → Prop}
variable {cc : ByteArray} {pc nL idx : Nat} {ls : Array Slot} {rest : List Value} {lv : List (Nat × Value)} {A : Nat → Prop} {H0 : Heap} {own : String}
theorem call_M_kindBy {a0 : Int32} {z : Int32} (S : CallFix p m c cc nL s args lw_all own) (hl : lv_has ls nL lv) (hlk : Cond.methodLink own idx yX1_kindBy ∈ lw_all) (hv : M_kindBy a0 = some z) (hR : 1 ≤ R.frames ∧ 20 ≤ R.locals) (hsum : (rest.map fun v => v.category).sum ≤ 8) (hdg : decode cc pc = .ok (.invokestatic idx, 3)) (hf : cells ≤ R.cells ∧ slots ≤ R.slots)
    (k : W p l e R s m args below meth c H locs cells slots Q (F0 m (pc + 3) ls (.int z :: rest))) : W p l e R s m args below meth c H locs cells slots Q (F0 m pc ls (.int a0 :: rest)) :=
  p_calli (av := [.int a0]) S hl (met_M_kindBy l a0 z hv) (lw_S hlk q1053 q70 q1054) rfl rfl ⟨by decide, by decide, by show (parseMethodDescriptor yX1_kindBy.desc).map (fun d => d.parameters.length) = some 1; decide +kernel⟩ hR rfl hsum hdg hf k
end CR_M_kindBy
/-! CapCouncilModel.isFigure (I)Z -/
def M_isFigure (st : MS) (a1 : Int32) : Option Int32 :=
  (M_here st a1).bind fun v1 =>
  (M_in (v1.toInt64) (48 : Int64) (57 : Int64)).bind fun v2 =>
  bs_gb v2 (some v2)
def rm_M_isFigure : Room := { frames := 1, cells := 0, slots := 0, locals := 25 }
set_option maxHeartbeats 4000000 in
set_option maxRecDepth 100000 in
theorem met_M_isFigure (l : Launch) (D : va_G) (ct : Nat → ClassId) (h : Nat → Nat) (sz : Nat) (st : MS) (a1 : Int32) (z : Int32) (hd : M_isFigure st a1 = some z) : Met l yX1_isFigure (ws_ yX1_isFigure cX1_isFigure 2 (some .boolean)) rm_M_isFigure (GPre gE_0 D ct (mAs h) (WM ct h st) sz [.ref (h 0), .int a1]) (vp_Si (fun r => r = z)) 0 0 (fun _ => False) := by
  refine g_met (cc := cX1_isFigure) (maxL := 2) (ret := (some .boolean)) (by decide) (Nat.le_of_ble_eq_true rfl) ?_
  intro p e U m args below meth c ls S hr hlk hK hH hE hsz hl
  have S : CallFix p m c cX1_isFigure 2 U args lw_all RX1 := S
  have hx := S.1
  have hb := S.2.1
  have hl : lv_has ls 2 [(0, .ref (h 0)), (1, .int a1)] := hl
  unfold M_isFigure at hd
  refine lv_aload_n (pc := 0) hx hb dX1_isFigure_0 rfl (lv_at hl 0 rfl) ?_
  refine lv_iload_n (pc := 1) hx hb dX1_isFigure_1 rfl (lv_at hl 1 rfl) ?_
  obtain ⟨v1, hv1, hd⟩ := bs_bd hd
  refine call_M_here (pc := 2) S hl hK hH q1030 hv1 ⟨Nat.le_of_ble_eq_true rfl, Nat.le_of_ble_eq_true rfl⟩ (Nat.le_of_ble_eq_true rfl) dX1_isFigure_2 ⟨Nat.zero_le _, Nat.zero_le _⟩ ?_
  refine lv_i2l (pc := 5) hx hb dX1_isFigure_5 rfl ?_
  refine lv_ldc2 (pc := 6) (own := RX1) (v := (48 : Int64)) hx hb S.2.2.2.1 (S.2.2.2.2 _ q1046) dX1_isFigure_6 ?_
  refine lv_ldc2 (pc := 9) (own := RX1) (v := (57 : Int64)) hx hb S.2.2.2.1 (S.2.2.2.2 _ q1047) dX1_isFigure_9 ?_
  obtain ⟨v2, hv2, hd⟩ := bs_bd hd
  refine call_M_in (pc := 12) S hl q974 hv2 ⟨Nat.le_of_ble_eq_true rfl, Nat.le_of_ble_eq_true rfl⟩ (Nat.le_of_ble_eq_true rfl) dX1_isFigure_12 ⟨Nat.zero_le _, Nat.zero_le _⟩ ?_
  obtain ⟨hn3, hd⟩ := bs_gb_spec hd
  exact r_zret hn3 hd S hr hlk dX1_isFigure_15
section CR_M_isFigure
variable {p : Program} {l : Launch} {e : Env} {R : Room} {s : State} {m : MethodId} {args : Array Value} {below : List Frame} {meth : Method} {c : Code} {H : Heap} {locs : List Loc} {cells slots : Nat} {Q : State → Prop}
variable {cc : ByteArray} {pc nL idx : Nat} {ls : Array Slot} {rest : List Value} {lv : List (Nat × Value)} {A : Nat → Prop} {H0 : Heap} {own : String}
theorem call_M_isFigure {D : va_G} {ct : Nat → ClassId} {h : Nat → Nat} {st : MS} {a1 : Int32} {z : Int32} (S : CallFix p m c cc nL s args lw_all own) (hl : lv_has ls nL lv) (hK : va_K D clA (tysG ct) s) (hH : GH D A (mAs h) H0 (WM ct h st) H locs) (hlk : Cond.methodLink own idx yX1_isFigure ∈ lw_all) (hv : M_isFigure st a1 = some z) (hR : 2 ≤ R.frames ∧ 46 ≤ R.locals) (hsum : (rest.map fun v => v.category).sum ≤ 8) (hdg : decode cc pc = .ok (.invokevirtual idx, 3)) (hf : cells ≤ R.cells ∧ slots ≤ R.slots)
    (k : W p l e R s m args below meth c H locs cells slots Q (F0 m (pc + 3) ls (.int z :: rest))) : W p l e R s m args below meth c H locs cells slots Q (F0 m pc ls (.int a1 :: .ref (h 0) :: rest)) :=
  r_calli (av := [.int a1]) S hl gE_0_ok trivial hK hH (met_M_isFigure l D ct h H.size st a1 z hv) (lw_V hlk q1044 qs43 q70 q1045) rfl rfl ⟨rfl, by decide, by decide, by show (parseMethodDescriptor yX1_isFigure.desc).map (fun d => d.parameters.length) = some 1; decide +kernel⟩ hR (m_recv hK hH) rfl hsum hdg hf k
end CR_M_isFigure
/-! CapCouncilModel.takes (III)Z -/
def M_takes_L10 (a1 : Int32) (a2 : Int32) (a3 : Int32) : Nat → MS → Int32 → Option (MS × Int32)
  | 0, _, _ => none
  | n + 1, st, x4 =>
    if a3 ≤ x4 then
      (some (st, (1 : Int32)))
    else
      ((M_isFigure st a1).bind fun v3 =>
      if v3 = 0 then
        (some (st, (0 : Int32)))
      else
        ((bs_ld (ma st 9) 84 a2).bind fun v5 =>
        (M_here st a1).bind fun v6 =>
        (mast st 9 84 a2 ((((10 : Int32) * v5) + v6) - (48 : Int32))).bind fun s7 =>
        bs_let ((mi s7 2) + (1 : Int32)) fun w8 =>
        bs_let (smi s7 2 w8) fun s9 =>
        bs_let (x4 + (1 : Int32)) fun w10 =>
        M_takes_L10 a1 a2 a3 n s9 w10))
def M_takes (st : MS) (a1 : Int32) (a2 : Int32) (a3 : Int32) : Option (MS × Int32) :=
  (mast st 9 84 a2 (0 : Int32)).bind fun s1 =>
  M_takes_L10 a1 a2 a3 bs_fu s1 (0 : Int32)
def rm_M_takes : Room := { frames := 2, cells := 0, slots := 0, locals := 46 }
set_option maxHeartbeats 4000000 in
set_option maxRecDepth 100000 in
theorem met_M_takes (l : Launch) (D : va_G) (ct : Nat → ClassId) (h : Nat → Nat) (sz : Nat) (st : MS) (a1 : Int32) (a2 : Int32) (a3 : Int32) (z : (MS × Int32)) (hd : M_takes st a1 a2 a3 = some z) : Met l yX1_takes (ws_ yX1_takes cX1_takes 5 (some .boolean)) rm_M_takes (GPre gE_0 D ct (mAs h) (WM ct h st) sz [.ref (h 0), .int a1, .int a2, .int a3]) (GQi D (mAs h) (mAs h) (WM ct h z.1) sz z.2) 0 0 (gA (mAs h) sz) := by
  refine g_met (cc := cX1_takes) (maxL := 5) (ret := (some .boolean)) (by decide) (Nat.le_of_ble_eq_true rfl) ?_
  intro p e U m args below meth c ls S hr hlk hK hH hE hsz hl
  have S : CallFix p m c cX1_takes 5 U args lw_all RX1 := S
  have hx := S.1
  have hb := S.2.1
  have hl : lv_has ls 5 [(0, .ref (h 0)), (1, .int a1), (2, .int a2), (3, .int a3)] := hl
  have h10 : ∀ (n10 : Nat) (st : MS) (x4 : Int32) (H : Heap) (locs : List Loc) (ls : Array Slot), GH D (gA (mAs h) sz) (mAs h) U.heap (WM ct h st) H locs → lv_has ls 5 [(0, .ref (h 0)), (1, .int a1), (2, .int a2), (3, .int a3), (4, .int x4)] → M_takes_L10 a1 a2 a3 n10 st x4 = some z → W p l e rm_M_takes U m args below meth c H locs 0 0 (MQ below (GQi D (mAs h) (mAs h) (WM ct h z.1) sz z.2) args U 0 0 (gA (mAs h) sz)) (F0 m 10 ls []) := by
    intro n10
    induction n10 with
    | zero =>
      intro st x4 H locs ls hH hl hd
      rw [M_takes_L10] at hd
      cases hd
    | succ n10 ih10 =>
      intro st x4 H locs ls hH hl hd
      rw [M_takes_L10] at hd
      refine lv_iload (pc := 10) hx hb dX1_takes_10 (lv_at hl 4 rfl) ?_
      refine lv_iload_n (pc := 12) hx hb dX1_takes_12 rfl (lv_at hl 3 rfl) ?_
      refine lv_icmp_ge (pc := 13) (tgt := 66) hx hb dX1_takes_13 (by decide) (fun c2 => ?_) (fun c2 => ?_)
      · have hd := if_t c2 hd
        refine lv_iconst (v := (1 : Int32)) (pc := 66) hx hb dX1_takes_66 (by decide) ?_
        exact g_zret (WM ct h) rfl hd S hr hlk hH dX1_takes_67
      · have hd := if_n c2 hd
        refine lv_aload_n (pc := 16) hx hb dX1_takes_16 rfl (lv_at hl 0 rfl) ?_
        refine lv_iload_n (pc := 17) hx hb dX1_takes_17 rfl (lv_at hl 1 rfl) ?_
        obtain ⟨v3, hv3, hd⟩ := bs_bd hd
        refine call_M_isFigure (pc := 18) S hl hK hH q1042 hv3 ⟨Nat.le_of_ble_eq_true rfl, Nat.le_of_ble_eq_true rfl⟩ (Nat.le_of_ble_eq_true rfl) dX1_takes_18 ⟨Nat.zero_le _, Nat.zero_le _⟩ ?_
        refine lv_if_ne (pc := 21) (tgt := 26) hx hb dX1_takes_21 (by decide) (fun c4 => ?_) (fun c4 => ?_)
        · have hd := if_n c4 hd
          refine lv_aload_n (pc := 26) hx hb dX1_takes_26 rfl (lv_at hl 0 rfl) ?_
          refine mg_anew (pc := 27) S hK hH dX1_takes_27 ?_
          refine lv_iload_n (pc := 30) hx hb dX1_takes_30 rfl (lv_at hl 2 rfl) ?_
          refine lv_bipush (v := (10 : Int32)) (pc := 31) hx hb dX1_takes_31 (by decide) ?_
          refine lv_aload_n (pc := 33) hx hb dX1_takes_33 rfl (lv_at hl 0 rfl) ?_
          refine mg_anew (pc := 34) S hK hH dX1_takes_34 ?_
          refine lv_iload_n (pc := 37) hx hb dX1_takes_37 rfl (lv_at hl 2 rfl) ?_
          obtain ⟨v5, hv5, hd⟩ := bs_bd hd
          refine ml_anew (pc := 38) S hK hH hv5 dX1_takes_38 ?_
          refine lv_imul (pc := 39) hx hb dX1_takes_39 ?_
          refine lv_aload_n (pc := 40) hx hb dX1_takes_40 rfl (lv_at hl 0 rfl) ?_
          refine lv_iload_n (pc := 41) hx hb dX1_takes_41 rfl (lv_at hl 1 rfl) ?_
          obtain ⟨v6, hv6, hd⟩ := bs_bd hd
          refine call_M_here (pc := 42) S hl hK hH q1030 hv6 ⟨Nat.le_of_ble_eq_true rfl, Nat.le_of_ble_eq_true rfl⟩ (Nat.le_of_ble_eq_true rfl) dX1_takes_42 ⟨Nat.zero_le _, Nat.zero_le _⟩ ?_
          refine lv_iadd (pc := 45) hx hb dX1_takes_45 ?_
          refine lv_bipush (v := (48 : Int32)) (pc := 46) hx hb dX1_takes_46 (by decide) ?_
          refine lv_isub (pc := 48) hx hb dX1_takes_48 ?_
          obtain ⟨s7, hs7, hd⟩ := bs_bd hd
          refine ms_anew (pc := 49) S hK hH hs7 dX1_takes_49 (fun H locs hH => ?_)
          refine lv_aload_n (pc := 50) hx hb dX1_takes_50 rfl (lv_at hl 0 rfl) ?_
          refine lv_dup (pc := 51) hx hb dX1_takes_51 rfl ?_
          refine mg_place (pc := 52) S hK hH dX1_takes_52 ?_
          refine lv_iconst (v := (1 : Int32)) (pc := 55) hx hb dX1_takes_55 (by decide) ?_
          refine lv_iadd (pc := 56) hx hb dX1_takes_56 ?_
          obtain ⟨w8, ew8, hd⟩ := bs_let_spec hd
          refine lv_topE (pc := 57) ew8 ?_
          obtain ⟨s9, es9, hd⟩ := bs_let_spec hd
          refine mp_place (pc := 57) S hK hH dX1_takes_57 es9 (fun H locs hH => ?_)
          obtain ⟨w10, ew10, hd⟩ := bs_let_spec hd
          refine lv_iinc (pc := 60) (v := w10) (lv' := [(4, .int w10), (0, .ref (h 0)), (1, .int a1), (2, .int a2), (3, .int a3)]) hx hb dX1_takes_60 hl (k := 4) rfl (by rw [ew10]; rfl) (by decide) rfl (fun ls hl => ?_)
          refine lv_goto (pc := 63) (tgt := 10) hx hb dX1_takes_63 (by decide) ?_
          exact ih10 s9 w10 _ _ _ hH (lv_sub hl [1, 2, 3, 4, 0] rfl) hd
        · have hd := if_t c4 hd
          refine lv_iconst (v := (0 : Int32)) (pc := 24) hx hb dX1_takes_24 (by decide) ?_
          exact g_zret (WM ct h) rfl hd S hr hlk hH dX1_takes_25
  unfold M_takes at hd
  refine lv_aload_n (pc := 0) hx hb dX1_takes_0 rfl (lv_at hl 0 rfl) ?_
  refine mg_anew (pc := 1) S hK hH dX1_takes_1 ?_
  refine lv_iload_n (pc := 4) hx hb dX1_takes_4 rfl (lv_at hl 2 rfl) ?_
  refine lv_iconst (v := (0 : Int32)) (pc := 5) hx hb dX1_takes_5 (by decide) ?_
  obtain ⟨s1, hs1, hd⟩ := bs_bd hd
  refine ms_anew (pc := 6) S hK hH hs1 dX1_takes_6 (fun H locs hH => ?_)
  refine lv_iconst (v := (0 : Int32)) (pc := 7) hx hb dX1_takes_7 (by decide) ?_
  refine lv_istore (pc := 8) (lv' := [(4, .int (0 : Int32)), (0, .ref (h 0)), (1, .int a1), (2, .int a2), (3, .int a3)]) hx hb dX1_takes_8 hl (by decide) rfl (fun ls hl => ?_)
  exact h10 bs_fu s1 (0 : Int32) _ _ _ hH (lv_sub hl [1, 2, 3, 4, 0] rfl) hd
section CR_M_takes
variable {p : Program} {l : Launch} {e : Env} {R : Room} {s : State} {m : MethodId} {args : Array Value} {below : List Frame} {meth : Method} {c : Code} {H : Heap} {locs : List Loc} {cells slots : Nat} {Q : State → Prop}
variable {cc : ByteArray} {pc nL idx : Nat} {ls : Array Slot} {rest : List Value} {lv : List (Nat × Value)} {A : Nat → Prop} {H0 : Heap} {own : String}
theorem call_M_takes {D : va_G} {ct : Nat → ClassId} {h : Nat → Nat} {st : MS} {a1 : Int32} {a2 : Int32} {a3 : Int32} {z : (MS × Int32)} (S : CallFix p m c cc nL s args lw_all own) (hl : lv_has ls nL lv) (hK : va_K D clA (tysG ct) s) (hH : GH D A (mAs h) H0 (WM ct h st) H locs) (hlk : Cond.methodLink own idx yX1_takes ∈ lw_all) (hv : M_takes st a1 a2 a3 = some z) (hR : 3 ≤ R.frames ∧ 70 ≤ R.locals) (hsum : (rest.map fun v => v.category).sum ≤ 8) (hdg : decode cc pc = .ok (.invokevirtual idx, 3)) (hf : cells ≤ R.cells ∧ slots ≤ R.slots)
    (k : ∀ (H1 : Heap) (locs1 : List Loc), GH D A (mAs h) H0 (WM ct h z.1) H1 locs1 → W p l e R s m args below meth c H1 locs1 cells slots Q (F0 m (pc + 3) ls (.int z.2 :: rest))) : W p l e R s m args below meth c H locs cells slots Q (F0 m pc ls (.int a3 :: .int a2 :: .int a1 :: .ref (h 0) :: rest)) :=
  g_calli (av := [.int a1, .int a2, .int a3]) S hl gE_0_ok trivial hK hH (met_M_takes l D ct h H.size st a1 a2 a3 z hv) (lw_V hlk q1040 qs42 q70 q1041) rfl rfl ⟨rfl, by decide, by decide, by show (parseMethodDescriptor yX1_takes.desc).map (fun d => d.parameters.length) = some 3; decide +kernel⟩ hR (m_recv hK hH) (fun _ h => Or.inl h) rfl hsum hdg hf k
end CR_M_takes
/-! CapCouncilModel.takesRing (I)Z -/
def M_takesRing (st : MS) (a1 : Int32) : Option (MS × Int32) :=
  (bs_ld (ma st 9) 84 (0 : Int32)).bind fun v1 =>
  (M_here st a1).bind fun v2 =>
  (M_kindBy v2).bind fun v3 =>
  if v1 = (5 : Int32) then
    (some (st, (0 : Int32)))
  else
    (if v3 = (-9 : Int32) then
      (some (st, (0 : Int32)))
    else
      ((mast st 9 84 ((2 : Int32) + v1) v3).bind fun s6 =>
      bs_let ((mi s6 2) + (1 : Int32)) fun w7 =>
      bs_let (smi s6 2 w7) fun s8 =>
      (M_takes s8 a1 ((7 : Int32) + v1) (2 : Int32)).bind fun q9 =>
      if q9.2 = 0 then
        (some (q9.1, (0 : Int32)))
      else
        ((M_takes q9.1 a1 ((12 : Int32) + v1) (1 : Int32)).bind fun q11 =>
        if q11.2 = 0 then
          (some (q11.1, (0 : Int32)))
        else
          ((bs_ld (ma q11.1 9) 84 (0 : Int32)).bind fun v13 =>
          (mast q11.1 9 84 (0 : Int32) (v13 + (1 : Int32))).bind fun s14 =>
          some (s14, (1 : Int32))))))
def rm_M_takesRing : Room := { frames := 3, cells := 0, slots := 0, locals := 70 }
set_option maxHeartbeats 4000000 in
set_option maxRecDepth 100000 in
theorem met_M_takesRing (l : Launch) (D : va_G) (ct : Nat → ClassId) (h : Nat → Nat) (sz : Nat) (st : MS) (a1 : Int32) (z : (MS × Int32)) (hd : M_takesRing st a1 = some z) : Met l yX1_takesRing (ws_ yX1_takesRing cX1_takesRing 4 (some .boolean)) rm_M_takesRing (GPre gE_0 D ct (mAs h) (WM ct h st) sz [.ref (h 0), .int a1]) (GQi D (mAs h) (mAs h) (WM ct h z.1) sz z.2) 0 0 (gA (mAs h) sz) := by
  refine g_met (cc := cX1_takesRing) (maxL := 4) (ret := (some .boolean)) (by decide) (Nat.le_of_ble_eq_true rfl) ?_
  intro p e U m args below meth c ls S hr hlk hK hH hE hsz hl
  have S : CallFix p m c cX1_takesRing 4 U args lw_all RX1 := S
  have hx := S.1
  have hb := S.2.1
  have hl : lv_has ls 4 [(0, .ref (h 0)), (1, .int a1)] := hl
  unfold M_takesRing at hd
  refine lv_aload_n (pc := 0) hx hb dX1_takesRing_0 rfl (lv_at hl 0 rfl) ?_
  refine mg_anew (pc := 1) S hK hH dX1_takesRing_1 ?_
  refine lv_iconst (v := (0 : Int32)) (pc := 4) hx hb dX1_takesRing_4 (by decide) ?_
  obtain ⟨v1, hv1, hd⟩ := bs_bd hd
  refine ml_anew (pc := 5) S hK hH hv1 dX1_takesRing_5 ?_
  refine lv_istore_n (pc := 6) (lv' := [(2, .int v1), (0, .ref (h 0)), (1, .int a1)]) hx hb dX1_takesRing_6 rfl hl (by decide) rfl (fun ls hl => ?_)
  refine lv_aload_n (pc := 7) hx hb dX1_takesRing_7 rfl (lv_at hl 1 rfl) ?_
  refine lv_iload_n (pc := 8) hx hb dX1_takesRing_8 rfl (lv_at hl 2 rfl) ?_
  obtain ⟨v2, hv2, hd⟩ := bs_bd hd
  refine call_M_here (pc := 9) S hl hK hH q1030 hv2 ⟨Nat.le_of_ble_eq_true rfl, Nat.le_of_ble_eq_true rfl⟩ (Nat.le_of_ble_eq_true rfl) dX1_takesRing_9 ⟨Nat.zero_le _, Nat.zero_le _⟩ ?_
  obtain ⟨v3, hv3, hd⟩ := bs_bd hd
  refine call_M_kindBy (pc := 12) S hl q1052 hv3 ⟨Nat.le_of_ble_eq_true rfl, Nat.le_of_ble_eq_true rfl⟩ (Nat.le_of_ble_eq_true rfl) dX1_takesRing_12 ⟨Nat.zero_le _, Nat.zero_le _⟩ ?_
  refine lv_istore_n (pc := 15) (lv' := [(3, .int v3), (2, .int v1), (0, .ref (h 0)), (1, .int a1)]) hx hb dX1_takesRing_15 rfl hl (by decide) rfl (fun ls hl => ?_)
  refine lv_iload_n (pc := 16) hx hb dX1_takesRing_16 rfl (lv_at hl 1 rfl) ?_
  refine lv_iconst (v := (5 : Int32)) (pc := 17) hx hb dX1_takesRing_17 (by decide) ?_
  refine lv_icmp_eq (pc := 18) (tgt := 27) hx hb dX1_takesRing_18 (by decide) (fun c4 => ?_) (fun c4 => ?_)
  · have hd := if_t c4 hd
    refine lv_iconst (v := (0 : Int32)) (pc := 27) hx hb dX1_takesRing_27 (by decide) ?_
    exact g_zret (WM ct h) rfl hd S hr hlk hH dX1_takesRing_28
  · have hd := if_n c4 hd
    refine lv_iload_n (pc := 21) hx hb dX1_takesRing_21 rfl (lv_at hl 0 rfl) ?_
    refine lv_bipush (v := (-9 : Int32)) (pc := 22) hx hb dX1_takesRing_22 (by decide) ?_
    refine lv_icmp_ne (pc := 24) (tgt := 29) hx hb dX1_takesRing_24 (by decide) (fun c5 => ?_) (fun c5 => ?_)
    · have hd := if_n c5 hd
      refine lv_aload_n (pc := 29) hx hb dX1_takesRing_29 rfl (lv_at hl 2 rfl) ?_
      refine mg_anew (pc := 30) S hK hH dX1_takesRing_30 ?_
      refine lv_iconst (v := (2 : Int32)) (pc := 33) hx hb dX1_takesRing_33 (by decide) ?_
      refine lv_iload_n (pc := 34) hx hb dX1_takesRing_34 rfl (lv_at hl 1 rfl) ?_
      refine lv_iadd (pc := 35) hx hb dX1_takesRing_35 ?_
      refine lv_iload_n (pc := 36) hx hb dX1_takesRing_36 rfl (lv_at hl 0 rfl) ?_
      obtain ⟨s6, hs6, hd⟩ := bs_bd hd
      refine ms_anew (pc := 37) S hK hH hs6 dX1_takesRing_37 (fun H locs hH => ?_)
      refine lv_aload_n (pc := 38) hx hb dX1_takesRing_38 rfl (lv_at hl 2 rfl) ?_
      refine lv_dup (pc := 39) hx hb dX1_takesRing_39 rfl ?_
      refine mg_place (pc := 40) S hK hH dX1_takesRing_40 ?_
      refine lv_iconst (v := (1 : Int32)) (pc := 43) hx hb dX1_takesRing_43 (by decide) ?_
      refine lv_iadd (pc := 44) hx hb dX1_takesRing_44 ?_
      obtain ⟨w7, ew7, hd⟩ := bs_let_spec hd
      refine lv_topE (pc := 45) ew7 ?_
      obtain ⟨s8, es8, hd⟩ := bs_let_spec hd
      refine mp_place (pc := 45) S hK hH dX1_takesRing_45 es8 (fun H locs hH => ?_)
      refine lv_aload_n (pc := 48) hx hb dX1_takesRing_48 rfl (lv_at hl 2 rfl) ?_
      refine lv_iload_n (pc := 49) hx hb dX1_takesRing_49 rfl (lv_at hl 3 rfl) ?_
      refine lv_bipush (v := (7 : Int32)) (pc := 50) hx hb dX1_takesRing_50 (by decide) ?_
      refine lv_iload_n (pc := 52) hx hb dX1_takesRing_52 rfl (lv_at hl 1 rfl) ?_
      refine lv_iadd (pc := 53) hx hb dX1_takesRing_53 ?_
      refine lv_iconst (v := (2 : Int32)) (pc := 54) hx hb dX1_takesRing_54 (by decide) ?_
      obtain ⟨q9, hq9, hd⟩ := bs_bd hd
      refine call_M_takes (pc := 55) S hl hK hH q1038 hq9 ⟨Nat.le_of_ble_eq_true rfl, Nat.le_of_ble_eq_true rfl⟩ (Nat.le_of_ble_eq_true rfl) dX1_takesRing_55 ⟨Nat.zero_le _, Nat.zero_le _⟩ (fun H locs hH => ?_)
      refine lv_if_eq (pc := 58) (tgt := 74) hx hb dX1_takesRing_58 (by decide) (fun c10 => ?_) (fun c10 => ?_)
      · have hd := if_t c10 hd
        refine lv_iconst (v := (0 : Int32)) (pc := 74) hx hb dX1_takesRing_74 (by decide) ?_
        exact g_zret (WM ct h) rfl hd S hr hlk hH dX1_takesRing_75
      · have hd := if_n c10 hd
        refine lv_aload_n (pc := 61) hx hb dX1_takesRing_61 rfl (lv_at hl 2 rfl) ?_
        refine lv_iload_n (pc := 62) hx hb dX1_takesRing_62 rfl (lv_at hl 3 rfl) ?_
        refine lv_bipush (v := (12 : Int32)) (pc := 63) hx hb dX1_takesRing_63 (by decide) ?_
        refine lv_iload_n (pc := 65) hx hb dX1_takesRing_65 rfl (lv_at hl 1 rfl) ?_
        refine lv_iadd (pc := 66) hx hb dX1_takesRing_66 ?_
        refine lv_iconst (v := (1 : Int32)) (pc := 67) hx hb dX1_takesRing_67 (by decide) ?_
        obtain ⟨q11, hq11, hd⟩ := bs_bd hd
        refine call_M_takes (pc := 68) S hl hK hH q1038 hq11 ⟨Nat.le_of_ble_eq_true rfl, Nat.le_of_ble_eq_true rfl⟩ (Nat.le_of_ble_eq_true rfl) dX1_takesRing_68 ⟨Nat.zero_le _, Nat.zero_le _⟩ (fun H locs hH => ?_)
        refine lv_if_ne (pc := 71) (tgt := 76) hx hb dX1_takesRing_71 (by decide) (fun c12 => ?_) (fun c12 => ?_)
        · have hd := if_n c12 hd
          refine lv_aload_n (pc := 76) hx hb dX1_takesRing_76 rfl (lv_at hl 2 rfl) ?_
          refine mg_anew (pc := 77) S hK hH dX1_takesRing_77 ?_
          refine lv_iconst (v := (0 : Int32)) (pc := 80) hx hb dX1_takesRing_80 (by decide) ?_
          refine lv_dup2_11 (pc := 81) hx hb dX1_takesRing_81 rfl rfl ?_
          obtain ⟨v13, hv13, hd⟩ := bs_bd hd
          refine ml_anew (pc := 82) S hK hH hv13 dX1_takesRing_82 ?_
          refine lv_iconst (v := (1 : Int32)) (pc := 83) hx hb dX1_takesRing_83 (by decide) ?_
          refine lv_iadd (pc := 84) hx hb dX1_takesRing_84 ?_
          obtain ⟨s14, hs14, hd⟩ := bs_bd hd
          refine ms_anew (pc := 85) S hK hH hs14 dX1_takesRing_85 (fun H locs hH => ?_)
          refine lv_iconst (v := (1 : Int32)) (pc := 86) hx hb dX1_takesRing_86 (by decide) ?_
          exact g_zret (WM ct h) rfl hd S hr hlk hH dX1_takesRing_87
        · have hd := if_t c12 hd
          refine lv_iconst (v := (0 : Int32)) (pc := 74) hx hb dX1_takesRing_74 (by decide) ?_
          exact g_zret (WM ct h) rfl hd S hr hlk hH dX1_takesRing_75
    · have hd := if_t c5 hd
      refine lv_iconst (v := (0 : Int32)) (pc := 27) hx hb dX1_takesRing_27 (by decide) ?_
      exact g_zret (WM ct h) rfl hd S hr hlk hH dX1_takesRing_28
section CR_M_takesRing
variable {p : Program} {l : Launch} {e : Env} {R : Room} {s : State} {m : MethodId} {args : Array Value} {below : List Frame} {meth : Method} {c : Code} {H : Heap} {locs : List Loc} {cells slots : Nat} {Q : State → Prop}
variable {cc : ByteArray} {pc nL idx : Nat} {ls : Array Slot} {rest : List Value} {lv : List (Nat × Value)} {A : Nat → Prop} {H0 : Heap} {own : String}
theorem call_M_takesRing {D : va_G} {ct : Nat → ClassId} {h : Nat → Nat} {st : MS} {a1 : Int32} {z : (MS × Int32)} (S : CallFix p m c cc nL s args lw_all own) (hl : lv_has ls nL lv) (hK : va_K D clA (tysG ct) s) (hH : GH D A (mAs h) H0 (WM ct h st) H locs) (hlk : Cond.methodLink own idx yX1_takesRing ∈ lw_all) (hv : M_takesRing st a1 = some z) (hR : 4 ≤ R.frames ∧ 93 ≤ R.locals) (hsum : (rest.map fun v => v.category).sum ≤ 8) (hdg : decode cc pc = .ok (.invokevirtual idx, 3)) (hf : cells ≤ R.cells ∧ slots ≤ R.slots)
    (k : ∀ (H1 : Heap) (locs1 : List Loc), GH D A (mAs h) H0 (WM ct h z.1) H1 locs1 → W p l e R s m args below meth c H1 locs1 cells slots Q (F0 m (pc + 3) ls (.int z.2 :: rest))) : W p l e R s m args below meth c H locs cells slots Q (F0 m pc ls (.int a1 :: .ref (h 0) :: rest)) :=
  g_calli (av := [.int a1]) S hl gE_0_ok trivial hK hH (met_M_takesRing l D ct h H.size st a1 z hv) (lw_V hlk q1050 qs44 q70 q1051) rfl rfl ⟨rfl, by decide, by decide, by show (parseMethodDescriptor yX1_takesRing.desc).map (fun d => d.parameters.length) = some 1; decide +kernel⟩ hR (m_recv hK hH) (fun _ h => Or.inl h) rfl hsum hdg hf k
end CR_M_takesRing
/-! CapCouncilModel.takesBed (I)Z -/
def M_takesBed (st : MS) (a1 : Int32) : Option (MS × Int32) :=
  (bs_ld (ma st 9) 84 (1 : Int32)).bind fun v1 =>
  if v1 = (6 : Int32) then
    (some (st, (0 : Int32)))
  else
    (bs_let ((mi st 2) + (1 : Int32)) fun w3 =>
    bs_let (smi st 2 w3) fun s4 =>
    (M_takes s4 a1 ((17 : Int32) + v1) (2 : Int32)).bind fun q5 =>
    if q5.2 = 0 then
      (some (q5.1, (0 : Int32)))
    else
      ((M_takes q5.1 a1 ((23 : Int32) + v1) (1 : Int32)).bind fun q7 =>
      if q7.2 = 0 then
        (some (q7.1, (0 : Int32)))
      else
        ((bs_ld (ma q7.1 9) 84 (1 : Int32)).bind fun v9 =>
        (mast q7.1 9 84 (1 : Int32) (v9 + (1 : Int32))).bind fun s10 =>
        some (s10, (1 : Int32)))))
def rm_M_takesBed : Room := { frames := 3, cells := 0, slots := 0, locals := 70 }
set_option maxHeartbeats 4000000 in
set_option maxRecDepth 100000 in
theorem met_M_takesBed (l : Launch) (D : va_G) (ct : Nat → ClassId) (h : Nat → Nat) (sz : Nat) (st : MS) (a1 : Int32) (z : (MS × Int32)) (hd : M_takesBed st a1 = some z) : Met l yX1_takesBed (ws_ yX1_takesBed cX1_takesBed 3 (some .boolean)) rm_M_takesBed (GPre gE_0 D ct (mAs h) (WM ct h st) sz [.ref (h 0), .int a1]) (GQi D (mAs h) (mAs h) (WM ct h z.1) sz z.2) 0 0 (gA (mAs h) sz) := by
  refine g_met (cc := cX1_takesBed) (maxL := 3) (ret := (some .boolean)) (by decide) (Nat.le_of_ble_eq_true rfl) ?_
  intro p e U m args below meth c ls S hr hlk hK hH hE hsz hl
  have S : CallFix p m c cX1_takesBed 3 U args lw_all RX1 := S
  have hx := S.1
  have hb := S.2.1
  have hl : lv_has ls 3 [(0, .ref (h 0)), (1, .int a1)] := hl
  unfold M_takesBed at hd
  refine lv_aload_n (pc := 0) hx hb dX1_takesBed_0 rfl (lv_at hl 0 rfl) ?_
  refine mg_anew (pc := 1) S hK hH dX1_takesBed_1 ?_
  refine lv_iconst (v := (1 : Int32)) (pc := 4) hx hb dX1_takesBed_4 (by decide) ?_
  obtain ⟨v1, hv1, hd⟩ := bs_bd hd
  refine ml_anew (pc := 5) S hK hH hv1 dX1_takesBed_5 ?_
  refine lv_istore_n (pc := 6) (lv' := [(2, .int v1), (0, .ref (h 0)), (1, .int a1)]) hx hb dX1_takesBed_6 rfl hl (by decide) rfl (fun ls hl => ?_)
  refine lv_iload_n (pc := 7) hx hb dX1_takesBed_7 rfl (lv_at hl 0 rfl) ?_
  refine lv_bipush (v := (6 : Int32)) (pc := 8) hx hb dX1_takesBed_8 (by decide) ?_
  refine lv_icmp_ne (pc := 10) (tgt := 15) hx hb dX1_takesBed_10 (by decide) (fun c2 => ?_) (fun c2 => ?_)
  · have hd := if_n c2 hd
    refine lv_aload_n (pc := 15) hx hb dX1_takesBed_15 rfl (lv_at hl 1 rfl) ?_
    refine lv_dup (pc := 16) hx hb dX1_takesBed_16 rfl ?_
    refine mg_place (pc := 17) S hK hH dX1_takesBed_17 ?_
    refine lv_iconst (v := (1 : Int32)) (pc := 20) hx hb dX1_takesBed_20 (by decide) ?_
    refine lv_iadd (pc := 21) hx hb dX1_takesBed_21 ?_
    obtain ⟨w3, ew3, hd⟩ := bs_let_spec hd
    refine lv_topE (pc := 22) ew3 ?_
    obtain ⟨s4, es4, hd⟩ := bs_let_spec hd
    refine mp_place (pc := 22) S hK hH dX1_takesBed_22 es4 (fun H locs hH => ?_)
    refine lv_aload_n (pc := 25) hx hb dX1_takesBed_25 rfl (lv_at hl 1 rfl) ?_
    refine lv_iload_n (pc := 26) hx hb dX1_takesBed_26 rfl (lv_at hl 2 rfl) ?_
    refine lv_bipush (v := (17 : Int32)) (pc := 27) hx hb dX1_takesBed_27 (by decide) ?_
    refine lv_iload_n (pc := 29) hx hb dX1_takesBed_29 rfl (lv_at hl 0 rfl) ?_
    refine lv_iadd (pc := 30) hx hb dX1_takesBed_30 ?_
    refine lv_iconst (v := (2 : Int32)) (pc := 31) hx hb dX1_takesBed_31 (by decide) ?_
    obtain ⟨q5, hq5, hd⟩ := bs_bd hd
    refine call_M_takes (pc := 32) S hl hK hH q1038 hq5 ⟨Nat.le_of_ble_eq_true rfl, Nat.le_of_ble_eq_true rfl⟩ (Nat.le_of_ble_eq_true rfl) dX1_takesBed_32 ⟨Nat.zero_le _, Nat.zero_le _⟩ (fun H locs hH => ?_)
    refine lv_if_eq (pc := 35) (tgt := 51) hx hb dX1_takesBed_35 (by decide) (fun c6 => ?_) (fun c6 => ?_)
    · have hd := if_t c6 hd
      refine lv_iconst (v := (0 : Int32)) (pc := 51) hx hb dX1_takesBed_51 (by decide) ?_
      exact g_zret (WM ct h) rfl hd S hr hlk hH dX1_takesBed_52
    · have hd := if_n c6 hd
      refine lv_aload_n (pc := 38) hx hb dX1_takesBed_38 rfl (lv_at hl 1 rfl) ?_
      refine lv_iload_n (pc := 39) hx hb dX1_takesBed_39 rfl (lv_at hl 2 rfl) ?_
      refine lv_bipush (v := (23 : Int32)) (pc := 40) hx hb dX1_takesBed_40 (by decide) ?_
      refine lv_iload_n (pc := 42) hx hb dX1_takesBed_42 rfl (lv_at hl 0 rfl) ?_
      refine lv_iadd (pc := 43) hx hb dX1_takesBed_43 ?_
      refine lv_iconst (v := (1 : Int32)) (pc := 44) hx hb dX1_takesBed_44 (by decide) ?_
      obtain ⟨q7, hq7, hd⟩ := bs_bd hd
      refine call_M_takes (pc := 45) S hl hK hH q1038 hq7 ⟨Nat.le_of_ble_eq_true rfl, Nat.le_of_ble_eq_true rfl⟩ (Nat.le_of_ble_eq_true rfl) dX1_takesBed_45 ⟨Nat.zero_le _, Nat.zero_le _⟩ (fun H locs hH => ?_)
      refine lv_if_ne (pc := 48) (tgt := 53) hx hb dX1_takesBed_48 (by decide) (fun c8 => ?_) (fun c8 => ?_)
      · have hd := if_n c8 hd
        refine lv_aload_n (pc := 53) hx hb dX1_takesBed_53 rfl (lv_at hl 1 rfl) ?_
        refine mg_anew (pc := 54) S hK hH dX1_takesBed_54 ?_
        refine lv_iconst (v := (1 : Int32)) (pc := 57) hx hb dX1_takesBed_57 (by decide) ?_
        refine lv_dup2_11 (pc := 58) hx hb dX1_takesBed_58 rfl rfl ?_
        obtain ⟨v9, hv9, hd⟩ := bs_bd hd
        refine ml_anew (pc := 59) S hK hH hv9 dX1_takesBed_59 ?_
        refine lv_iconst (v := (1 : Int32)) (pc := 60) hx hb dX1_takesBed_60 (by decide) ?_
        refine lv_iadd (pc := 61) hx hb dX1_takesBed_61 ?_
        obtain ⟨s10, hs10, hd⟩ := bs_bd hd
        refine ms_anew (pc := 62) S hK hH hs10 dX1_takesBed_62 (fun H locs hH => ?_)
        refine lv_iconst (v := (1 : Int32)) (pc := 63) hx hb dX1_takesBed_63 (by decide) ?_
        exact g_zret (WM ct h) rfl hd S hr hlk hH dX1_takesBed_64
      · have hd := if_t c8 hd
        refine lv_iconst (v := (0 : Int32)) (pc := 51) hx hb dX1_takesBed_51 (by decide) ?_
        exact g_zret (WM ct h) rfl hd S hr hlk hH dX1_takesBed_52
  · have hd := if_t c2 hd
    refine lv_iconst (v := (0 : Int32)) (pc := 13) hx hb dX1_takesBed_13 (by decide) ?_
    exact g_zret (WM ct h) rfl hd S hr hlk hH dX1_takesBed_14
section CR_M_takesBed
variable {p : Program} {l : Launch} {e : Env} {R : Room} {s : State} {m : MethodId} {args : Array Value} {below : List Frame} {meth : Method} {c : Code} {H : Heap} {locs : List Loc} {cells slots : Nat} {Q : State → Prop}
variable {cc : ByteArray} {pc nL idx : Nat} {ls : Array Slot} {rest : List Value} {lv : List (Nat × Value)} {A : Nat → Prop} {H0 : Heap} {own : String}
theorem call_M_takesBed {D : va_G} {ct : Nat → ClassId} {h : Nat → Nat} {st : MS} {a1 : Int32} {z : (MS × Int32)} (S : CallFix p m c cc nL s args lw_all own) (hl : lv_has ls nL lv) (hK : va_K D clA (tysG ct) s) (hH : GH D A (mAs h) H0 (WM ct h st) H locs) (hlk : Cond.methodLink own idx yX1_takesBed ∈ lw_all) (hv : M_takesBed st a1 = some z) (hR : 4 ≤ R.frames ∧ 92 ≤ R.locals) (hsum : (rest.map fun v => v.category).sum ≤ 8) (hdg : decode cc pc = .ok (.invokevirtual idx, 3)) (hf : cells ≤ R.cells ∧ slots ≤ R.slots)
    (k : ∀ (H1 : Heap) (locs1 : List Loc), GH D A (mAs h) H0 (WM ct h z.1) H1 locs1 → W p l e R s m args below meth c H1 locs1 cells slots Q (F0 m (pc + 3) ls (.int z.2 :: rest))) : W p l e R s m args below meth c H locs cells slots Q (F0 m pc ls (.int a1 :: .ref (h 0) :: rest)) :=
  g_calli (av := [.int a1]) S hl gE_0_ok trivial hK hH (met_M_takesBed l D ct h H.size st a1 z hv) (lw_V hlk q1036 qs41 q70 q1037) rfl rfl ⟨rfl, by decide, by decide, by show (parseMethodDescriptor yX1_takesBed.desc).map (fun d => d.parameters.length) = some 1; decide +kernel⟩ hR (m_recv hK hH) (fun _ h => Or.inl h) rfl hsum hdg hf k
end CR_M_takesBed
/-! CapCouncilModel.faultOf (I)I -/
def M_faultOf_J66 (k26 : MS → Int32 → Option (MS × Int32)) (a1 : Int32) (st : MS) (y0 : Int32) : Option (MS × Int32) :=
  if y0 = 0 then
    (k26 st y0)
  else
    ((M_skip st a1).bind fun q18 =>
    k26 q18 y0)
def M_faultOf_L26 (k79 : MS → Int32 → Option (MS × Int32)) (a1 : Int32) : Nat → MS → Int32 → Option (MS × Int32)
  | 0, _, _ => none
  | n + 1, st, x2 =>
    if x2 = 0 then
      (k79 st x2)
    else
      ((bs_ld (ma st 6) 4 a1).bind fun v6 =>
      if v6 ≤ (mi st 2) then
        (k79 st x2)
      else
        ((M_here st a1).bind fun v8 =>
        if v8 = (98 : Int32) then
          ((M_takesBed st a1).bind fun q11 =>
          M_faultOf_J66 (M_faultOf_L26 k79 a1 n) a1 q11.1 q11.2)
        else
          ((M_takesRing st a1).bind fun q10 =>
          M_faultOf_J66 (M_faultOf_L26 k79 a1 n) a1 q10.1 q10.2)))
def M_faultOf_J79 (a1 : Int32) (st : MS) (x2 : Int32) : Option (MS × Int32) :=
  if x2 = 0 then
    (some (st, (mi st 2)))
  else
    ((bs_ld (ma st 9) 84 (0 : Int32)).bind fun v13 =>
    if v13 ≤ 0 then
      (some (st, (mi st 2)))
    else
      ((bs_ld (ma st 9) 84 (1 : Int32)).bind fun v15 =>
      if v15 ≤ 0 then
        (some (st, (mi st 2)))
      else
        (some (st, (-9 : Int32)))))
def M_faultOf (st : MS) (a1 : Int32) : Option (MS × Int32) :=
  bs_let (smi st 2 (0 : Int32)) fun s1 =>
  (mast s1 9 84 (0 : Int32) (0 : Int32)).bind fun s2 =>
  (mast s2 9 84 (1 : Int32) (0 : Int32)).bind fun s3 =>
  (M_skip s3 a1).bind fun q4 =>
  M_faultOf_L26 (M_faultOf_J79 a1) a1 bs_fu q4 (1 : Int32)
def rm_M_faultOf : Room := { frames := 4, cells := 0, slots := 0, locals := 93 }
set_option maxHeartbeats 4000000 in
set_option maxRecDepth 100000 in
theorem met_M_faultOf (l : Launch) (D : va_G) (ct : Nat → ClassId) (h : Nat → Nat) (sz : Nat) (st : MS) (a1 : Int32) (z : (MS × Int32)) (hd : M_faultOf st a1 = some z) : Met l yX1_faultOf (ws_ yX1_faultOf cX1_faultOf 3 (some .int)) rm_M_faultOf (GPre gE_0 D ct (mAs h) (WM ct h st) sz [.ref (h 0), .int a1]) (GQi D (mAs h) (mAs h) (WM ct h z.1) sz z.2) 0 0 (gA (mAs h) sz) := by
  refine g_met (cc := cX1_faultOf) (maxL := 3) (ret := (some .int)) (by decide) (Nat.le_of_ble_eq_true rfl) ?_
  intro p e U m args below meth c ls S hr hlk hK hH hE hsz hl
  have S : CallFix p m c cX1_faultOf 3 U args lw_all RX1 := S
  have hx := S.1
  have hb := S.2.1
  have hl : lv_has ls 3 [(0, .ref (h 0)), (1, .int a1)] := hl
  have h79 : ∀ (st : MS) (x2 : Int32) (H : Heap) (locs : List Loc) (ls : Array Slot), GH D (gA (mAs h) sz) (mAs h) U.heap (WM ct h st) H locs → lv_has ls 3 [(0, .ref (h 0)), (1, .int a1), (2, .int x2)] → M_faultOf_J79 a1 st x2 = some z → W p l e rm_M_faultOf U m args below meth c H locs 0 0 (MQ below (GQi D (mAs h) (mAs h) (WM ct h z.1) sz z.2) args U 0 0 (gA (mAs h) sz)) (F0 m 79 ls []) := by
    intro st x2 H locs ls hH hl hd
    unfold M_faultOf_J79 at hd
    refine lv_iload_n (pc := 79) hx hb dX1_faultOf_79 rfl (lv_at hl 2 rfl) ?_
    refine lv_if_eq (pc := 80) (tgt := 106) hx hb dX1_faultOf_80 (by decide) (fun c12 => ?_) (fun c12 => ?_)
    · have hd := if_t c12 hd
      refine lv_aload_n (pc := 106) hx hb dX1_faultOf_106 rfl (lv_at hl 0 rfl) ?_
      refine mg_place (pc := 107) S hK hH dX1_faultOf_107 ?_
      exact g_iret (WM ct h) hd S hr hlk hH dX1_faultOf_110
    · have hd := if_n c12 hd
      refine lv_aload_n (pc := 83) hx hb dX1_faultOf_83 rfl (lv_at hl 0 rfl) ?_
      refine mg_anew (pc := 84) S hK hH dX1_faultOf_84 ?_
      refine lv_iconst (v := (0 : Int32)) (pc := 87) hx hb dX1_faultOf_87 (by decide) ?_
      obtain ⟨v13, hv13, hd⟩ := bs_bd hd
      refine ml_anew (pc := 88) S hK hH hv13 dX1_faultOf_88 ?_
      refine lv_if_le (pc := 89) (tgt := 106) hx hb dX1_faultOf_89 (by decide) (fun c14 => ?_) (fun c14 => ?_)
      · have hd := if_t c14 hd
        refine lv_aload_n (pc := 106) hx hb dX1_faultOf_106 rfl (lv_at hl 0 rfl) ?_
        refine mg_place (pc := 107) S hK hH dX1_faultOf_107 ?_
        exact g_iret (WM ct h) hd S hr hlk hH dX1_faultOf_110
      · have hd := if_n c14 hd
        refine lv_aload_n (pc := 92) hx hb dX1_faultOf_92 rfl (lv_at hl 0 rfl) ?_
        refine mg_anew (pc := 93) S hK hH dX1_faultOf_93 ?_
        refine lv_iconst (v := (1 : Int32)) (pc := 96) hx hb dX1_faultOf_96 (by decide) ?_
        obtain ⟨v15, hv15, hd⟩ := bs_bd hd
        refine ml_anew (pc := 97) S hK hH hv15 dX1_faultOf_97 ?_
        refine lv_if_le (pc := 98) (tgt := 106) hx hb dX1_faultOf_98 (by decide) (fun c16 => ?_) (fun c16 => ?_)
        · have hd := if_t c16 hd
          refine lv_aload_n (pc := 106) hx hb dX1_faultOf_106 rfl (lv_at hl 0 rfl) ?_
          refine mg_place (pc := 107) S hK hH dX1_faultOf_107 ?_
          exact g_iret (WM ct h) hd S hr hlk hH dX1_faultOf_110
        · have hd := if_n c16 hd
          refine lv_bipush (v := (-9 : Int32)) (pc := 101) hx hb dX1_faultOf_101 (by decide) ?_
          refine lv_goto (pc := 103) (tgt := 110) hx hb dX1_faultOf_103 (by decide) ?_
          exact g_iret (WM ct h) hd S hr hlk hH dX1_faultOf_110
  have h26 : ∀ (n26 : Nat) (st : MS) (x2 : Int32) (H : Heap) (locs : List Loc) (ls : Array Slot), GH D (gA (mAs h) sz) (mAs h) U.heap (WM ct h st) H locs → lv_has ls 3 [(0, .ref (h 0)), (1, .int a1), (2, .int x2)] → M_faultOf_L26 (M_faultOf_J79 a1) a1 n26 st x2 = some z → W p l e rm_M_faultOf U m args below meth c H locs 0 0 (MQ below (GQi D (mAs h) (mAs h) (WM ct h z.1) sz z.2) args U 0 0 (gA (mAs h) sz)) (F0 m 26 ls []) := by
    intro n26
    induction n26 with
    | zero =>
      intro st x2 H locs ls hH hl hd
      rw [M_faultOf_L26] at hd
      cases hd
    | succ n26 ih26 =>
      have h66 : ∀ (st : MS) (y0 : Int32) (H : Heap) (locs : List Loc) (ls : Array Slot), GH D (gA (mAs h) sz) (mAs h) U.heap (WM ct h st) H locs → lv_has ls 3 [(0, .ref (h 0)), (1, .int a1)] → M_faultOf_J66 (M_faultOf_L26 (M_faultOf_J79 a1) a1 n26) a1 st y0 = some z → W p l e rm_M_faultOf U m args below meth c H locs 0 0 (MQ below (GQi D (mAs h) (mAs h) (WM ct h z.1) sz z.2) args U 0 0 (gA (mAs h) sz)) (F0 m 66 ls [.int y0]) := by
        intro st y0 H locs ls hH hl hd
        unfold M_faultOf_J66 at hd
        refine lv_istore_n (pc := 66) (lv' := [(2, .int y0), (0, .ref (h 0)), (1, .int a1)]) hx hb dX1_faultOf_66 rfl hl (by decide) rfl (fun ls hl => ?_)
        refine lv_iload_n (pc := 67) hx hb dX1_faultOf_67 rfl (lv_at hl 0 rfl) ?_
        refine lv_if_eq (pc := 68) (tgt := 26) hx hb dX1_faultOf_68 (by decide) (fun c17 => ?_) (fun c17 => ?_)
        · have hd := if_t c17 hd
          exact ih26 st y0 _ _ _ hH (lv_sub hl [1, 2, 0] rfl) hd
        · have hd := if_n c17 hd
          refine lv_aload_n (pc := 71) hx hb dX1_faultOf_71 rfl (lv_at hl 1 rfl) ?_
          refine lv_iload_n (pc := 72) hx hb dX1_faultOf_72 rfl (lv_at hl 2 rfl) ?_
          obtain ⟨q18, hq18, hd⟩ := bs_bd hd
          refine call_M_skip (pc := 73) S hl hK hH q1026 hq18 ⟨Nat.le_of_ble_eq_true rfl, Nat.le_of_ble_eq_true rfl⟩ (Nat.le_of_ble_eq_true rfl) dX1_faultOf_73 ⟨Nat.zero_le _, Nat.zero_le _⟩ (fun H locs hH => ?_)
          refine lv_goto (pc := 76) (tgt := 26) hx hb dX1_faultOf_76 (by decide) ?_
          exact ih26 q18 y0 _ _ _ hH (lv_sub hl [1, 2, 0] rfl) hd
      intro st x2 H locs ls hH hl hd
      rw [M_faultOf_L26] at hd
      refine lv_iload_n (pc := 26) hx hb dX1_faultOf_26 rfl (lv_at hl 2 rfl) ?_
      refine lv_if_eq (pc := 27) (tgt := 79) hx hb dX1_faultOf_27 (by decide) (fun c5 => ?_) (fun c5 => ?_)
      · have hd := if_t c5 hd
        exact h79 st x2 _ _ _ hH (lv_sub hl [0, 1, 2] rfl) hd
      · have hd := if_n c5 hd
        refine lv_aload_n (pc := 30) hx hb dX1_faultOf_30 rfl (lv_at hl 0 rfl) ?_
        refine mg_place (pc := 31) S hK hH dX1_faultOf_31 ?_
        refine lv_aload_n (pc := 34) hx hb dX1_faultOf_34 rfl (lv_at hl 0 rfl) ?_
        refine mg_textLong (pc := 35) S hK hH dX1_faultOf_35 ?_
        refine lv_iload_n (pc := 38) hx hb dX1_faultOf_38 rfl (lv_at hl 1 rfl) ?_
        obtain ⟨v6, hv6, hd⟩ := bs_bd hd
        refine ml_textLong (pc := 39) S hK hH hv6 dX1_faultOf_39 ?_
        refine lv_icmp_ge (pc := 40) (tgt := 79) hx hb dX1_faultOf_40 (by decide) (fun c7 => ?_) (fun c7 => ?_)
        · have hd := if_t c7 hd
          exact h79 st x2 _ _ _ hH (lv_sub hl [0, 1, 2] rfl) hd
        · have hd := if_n c7 hd
          refine lv_aload_n (pc := 43) hx hb dX1_faultOf_43 rfl (lv_at hl 0 rfl) ?_
          refine lv_iload_n (pc := 44) hx hb dX1_faultOf_44 rfl (lv_at hl 1 rfl) ?_
          obtain ⟨v8, hv8, hd⟩ := bs_bd hd
          refine call_M_here (pc := 45) S hl hK hH q1030 hv8 ⟨Nat.le_of_ble_eq_true rfl, Nat.le_of_ble_eq_true rfl⟩ (Nat.le_of_ble_eq_true rfl) dX1_faultOf_45 ⟨Nat.zero_le _, Nat.zero_le _⟩ ?_
          refine lv_bipush (v := (98 : Int32)) (pc := 48) hx hb dX1_faultOf_48 (by decide) ?_
          refine lv_icmp_ne (pc := 50) (tgt := 61) hx hb dX1_faultOf_50 (by decide) (fun c9 => ?_) (fun c9 => ?_)
          · have hd := if_n c9 hd
            refine lv_aload_n (pc := 61) hx hb dX1_faultOf_61 rfl (lv_at hl 0 rfl) ?_
            refine lv_iload_n (pc := 62) hx hb dX1_faultOf_62 rfl (lv_at hl 1 rfl) ?_
            obtain ⟨q10, hq10, hd⟩ := bs_bd hd
            refine call_M_takesRing (pc := 63) S hl hK hH q1048 hq10 ⟨Nat.le_of_ble_eq_true rfl, Nat.le_of_ble_eq_true rfl⟩ (Nat.le_of_ble_eq_true rfl) dX1_faultOf_63 ⟨Nat.zero_le _, Nat.zero_le _⟩ (fun H locs hH => ?_)
            exact h66 q10.1 q10.2 _ _ _ hH (lv_sub hl [0, 1] rfl) hd
          · have hd := if_t c9 hd
            refine lv_aload_n (pc := 53) hx hb dX1_faultOf_53 rfl (lv_at hl 0 rfl) ?_
            refine lv_iload_n (pc := 54) hx hb dX1_faultOf_54 rfl (lv_at hl 1 rfl) ?_
            obtain ⟨q11, hq11, hd⟩ := bs_bd hd
            refine call_M_takesBed (pc := 55) S hl hK hH q1034 hq11 ⟨Nat.le_of_ble_eq_true rfl, Nat.le_of_ble_eq_true rfl⟩ (Nat.le_of_ble_eq_true rfl) dX1_faultOf_55 ⟨Nat.zero_le _, Nat.zero_le _⟩ (fun H locs hH => ?_)
            refine lv_goto (pc := 58) (tgt := 66) hx hb dX1_faultOf_58 (by decide) ?_
            exact h66 q11.1 q11.2 _ _ _ hH (lv_sub hl [0, 1] rfl) hd
  unfold M_faultOf at hd
  refine lv_iconst (v := (1 : Int32)) (pc := 0) hx hb dX1_faultOf_0 (by decide) ?_
  refine lv_istore_n (pc := 1) (lv' := [(2, .int (1 : Int32)), (0, .ref (h 0)), (1, .int a1)]) hx hb dX1_faultOf_1 rfl hl (by decide) rfl (fun ls hl => ?_)
  refine lv_aload_n (pc := 2) hx hb dX1_faultOf_2 rfl (lv_at hl 1 rfl) ?_
  refine lv_iconst (v := (0 : Int32)) (pc := 3) hx hb dX1_faultOf_3 (by decide) ?_
  obtain ⟨s1, es1, hd⟩ := bs_let_spec hd
  refine mp_place (pc := 4) S hK hH dX1_faultOf_4 es1 (fun H locs hH => ?_)
  refine lv_aload_n (pc := 7) hx hb dX1_faultOf_7 rfl (lv_at hl 1 rfl) ?_
  refine mg_anew (pc := 8) S hK hH dX1_faultOf_8 ?_
  refine lv_iconst (v := (0 : Int32)) (pc := 11) hx hb dX1_faultOf_11 (by decide) ?_
  refine lv_iconst (v := (0 : Int32)) (pc := 12) hx hb dX1_faultOf_12 (by decide) ?_
  obtain ⟨s2, hs2, hd⟩ := bs_bd hd
  refine ms_anew (pc := 13) S hK hH hs2 dX1_faultOf_13 (fun H locs hH => ?_)
  refine lv_aload_n (pc := 14) hx hb dX1_faultOf_14 rfl (lv_at hl 1 rfl) ?_
  refine mg_anew (pc := 15) S hK hH dX1_faultOf_15 ?_
  refine lv_iconst (v := (1 : Int32)) (pc := 18) hx hb dX1_faultOf_18 (by decide) ?_
  refine lv_iconst (v := (0 : Int32)) (pc := 19) hx hb dX1_faultOf_19 (by decide) ?_
  obtain ⟨s3, hs3, hd⟩ := bs_bd hd
  refine ms_anew (pc := 20) S hK hH hs3 dX1_faultOf_20 (fun H locs hH => ?_)
  refine lv_aload_n (pc := 21) hx hb dX1_faultOf_21 rfl (lv_at hl 1 rfl) ?_
  refine lv_iload_n (pc := 22) hx hb dX1_faultOf_22 rfl (lv_at hl 2 rfl) ?_
  obtain ⟨q4, hq4, hd⟩ := bs_bd hd
  refine call_M_skip (pc := 23) S hl hK hH q1026 hq4 ⟨Nat.le_of_ble_eq_true rfl, Nat.le_of_ble_eq_true rfl⟩ (Nat.le_of_ble_eq_true rfl) dX1_faultOf_23 ⟨Nat.zero_le _, Nat.zero_le _⟩ (fun H locs hH => ?_)
  exact h26 bs_fu q4 (1 : Int32) _ _ _ hH (lv_sub hl [1, 2, 0] rfl) hd
section CR_M_faultOf
variable {p : Program} {l : Launch} {e : Env} {R : Room} {s : State} {m : MethodId} {args : Array Value} {below : List Frame} {meth : Method} {c : Code} {H : Heap} {locs : List Loc} {cells slots : Nat} {Q : State → Prop}
variable {cc : ByteArray} {pc nL idx : Nat} {ls : Array Slot} {rest : List Value} {lv : List (Nat × Value)} {A : Nat → Prop} {H0 : Heap} {own : String}
theorem call_M_faultOf {D : va_G} {ct : Nat → ClassId} {h : Nat → Nat} {st : MS} {a1 : Int32} {z : (MS × Int32)} (S : CallFix p m c cc nL s args lw_all own) (hl : lv_has ls nL lv) (hK : va_K D clA (tysG ct) s) (hH : GH D A (mAs h) H0 (WM ct h st) H locs) (hlk : Cond.methodLink own idx yX1_faultOf ∈ lw_all) (hv : M_faultOf st a1 = some z) (hR : 5 ≤ R.frames ∧ 115 ≤ R.locals) (hsum : (rest.map fun v => v.category).sum ≤ 8) (hdg : decode cc pc = .ok (.invokevirtual idx, 3)) (hf : cells ≤ R.cells ∧ slots ≤ R.slots)
    (k : ∀ (H1 : Heap) (locs1 : List Loc), GH D A (mAs h) H0 (WM ct h z.1) H1 locs1 → W p l e R s m args below meth c H1 locs1 cells slots Q (F0 m (pc + 3) ls (.int z.2 :: rest))) : W p l e R s m args below meth c H locs cells slots Q (F0 m pc ls (.int a1 :: .ref (h 0) :: rest)) :=
  g_calli (av := [.int a1]) S hl gE_0_ok trivial hK hH (met_M_faultOf l D ct h H.size st a1 z hv) (lw_V hlk q1024 qs38 q70 q1025) rfl rfl ⟨rfl, by decide, by decide, by show (parseMethodDescriptor yX1_faultOf.desc).map (fun d => d.parameters.length) = some 1; decide +kernel⟩ hR (m_recv hK hH) (fun _ h => Or.inl h) rfl hsum hdg hf k
end CR_M_faultOf
/-! CapCouncilModel.fault (I)I -/
def M_fault (st : MS) (a1 : Int32) : Option (MS × Int32) :=
  (M_isText a1).bind fun v1 =>
  if v1 = 0 then
    (some (st, (-1 : Int32)))
  else
    ((bs_ld (ma st 6) 4 a1).bind fun v3 =>
    if 0 ≤ v3 then
      ((M_faultOf st a1).bind fun q5 =>
      some (q5.1, q5.2))
    else
      ((M_finds st (1 : Int32)).bind fun q6 =>
      some (q6.1, q6.2)))
def rm_M_fault : Room := { frames := 5, cells := 0, slots := 0, locals := 115 }
set_option maxHeartbeats 4000000 in
set_option maxRecDepth 100000 in
theorem met_M_fault (l : Launch) (D : va_G) (ct : Nat → ClassId) (h : Nat → Nat) (sz : Nat) (st : MS) (a1 : Int32) (z : (MS × Int32)) (hd : M_fault st a1 = some z) : Met l yX1_fault (ws_ yX1_fault cX1_fault 2 (some .int)) rm_M_fault (GPre gE_0 D ct (mAs h) (WM ct h st) sz [.ref (h 0), .int a1]) (GQi D (mAs h) (mAs h) (WM ct h z.1) sz z.2) 0 0 (gA (mAs h) sz) := by
  refine g_met (cc := cX1_fault) (maxL := 2) (ret := (some .int)) (by decide) (Nat.le_of_ble_eq_true rfl) ?_
  intro p e U m args below meth c ls S hr hlk hK hH hE hsz hl
  have S : CallFix p m c cX1_fault 2 U args lw_all RX1 := S
  have hx := S.1
  have hb := S.2.1
  have hl : lv_has ls 2 [(0, .ref (h 0)), (1, .int a1)] := hl
  unfold M_fault at hd
  refine lv_iload_n (pc := 0) hx hb dX1_fault_0 rfl (lv_at hl 1 rfl) ?_
  obtain ⟨v1, hv1, hd⟩ := bs_bd hd
  refine call_M_isText (pc := 1) S hl q1010 hv1 ⟨Nat.le_of_ble_eq_true rfl, Nat.le_of_ble_eq_true rfl⟩ (Nat.le_of_ble_eq_true rfl) dX1_fault_1 ⟨Nat.zero_le _, Nat.zero_le _⟩ ?_
  refine lv_if_ne (pc := 4) (tgt := 9) hx hb dX1_fault_4 (by decide) (fun c2 => ?_) (fun c2 => ?_)
  · have hd := if_n c2 hd
    refine lv_aload_n (pc := 9) hx hb dX1_fault_9 rfl (lv_at hl 0 rfl) ?_
    refine mg_textLong (pc := 10) S hK hH dX1_fault_10 ?_
    refine lv_iload_n (pc := 13) hx hb dX1_fault_13 rfl (lv_at hl 1 rfl) ?_
    obtain ⟨v3, hv3, hd⟩ := bs_bd hd
    refine ml_textLong (pc := 14) S hK hH hv3 dX1_fault_14 ?_
    refine lv_if_ge (pc := 15) (tgt := 26) hx hb dX1_fault_15 (by decide) (fun c4 => ?_) (fun c4 => ?_)
    · have hd := if_t c4 hd
      refine lv_aload_n (pc := 26) hx hb dX1_fault_26 rfl (lv_at hl 0 rfl) ?_
      refine lv_iload_n (pc := 27) hx hb dX1_fault_27 rfl (lv_at hl 1 rfl) ?_
      obtain ⟨q5, hq5, hd⟩ := bs_bd hd
      refine call_M_faultOf (pc := 28) S hl hK hH q1022 hq5 ⟨Nat.le_of_ble_eq_true rfl, Nat.le_of_ble_eq_true rfl⟩ (Nat.le_of_ble_eq_true rfl) dX1_fault_28 ⟨Nat.zero_le _, Nat.zero_le _⟩ (fun H locs hH => ?_)
      exact g_iret (WM ct h) hd S hr hlk hH dX1_fault_31
    · have hd := if_n c4 hd
      refine lv_aload_n (pc := 18) hx hb dX1_fault_18 rfl (lv_at hl 0 rfl) ?_
      refine lv_iconst (v := (1 : Int32)) (pc := 19) hx hb dX1_fault_19 (by decide) ?_
      obtain ⟨q6, hq6, hd⟩ := bs_bd hd
      refine call_M_finds (pc := 20) S hl hK hH q977 hq6 ⟨Nat.le_of_ble_eq_true rfl, Nat.le_of_ble_eq_true rfl⟩ (Nat.le_of_ble_eq_true rfl) dX1_fault_20 ⟨Nat.zero_le _, Nat.zero_le _⟩ (fun H locs hH => ?_)
      refine lv_goto (pc := 23) (tgt := 31) hx hb dX1_fault_23 (by decide) ?_
      exact g_iret (WM ct h) hd S hr hlk hH dX1_fault_31
  · have hd := if_t c2 hd
    refine lv_iconst (v := (-1 : Int32)) (pc := 7) hx hb dX1_fault_7 (by decide) ?_
    exact g_iret (WM ct h) hd S hr hlk hH dX1_fault_8
section CR_M_fault
variable {p : Program} {l : Launch} {e : Env} {R : Room} {s : State} {m : MethodId} {args : Array Value} {below : List Frame} {meth : Method} {c : Code} {H : Heap} {locs : List Loc} {cells slots : Nat} {Q : State → Prop}
variable {cc : ByteArray} {pc nL idx : Nat} {ls : Array Slot} {rest : List Value} {lv : List (Nat × Value)} {A : Nat → Prop} {H0 : Heap} {own : String}
theorem call_M_fault {D : va_G} {ct : Nat → ClassId} {h : Nat → Nat} {st : MS} {a1 : Int32} {z : (MS × Int32)} (S : CallFix p m c cc nL s args lw_all own) (hl : lv_has ls nL lv) (hK : va_K D clA (tysG ct) s) (hH : GH D A (mAs h) H0 (WM ct h st) H locs) (hlk : Cond.methodLink own idx yX1_fault ∈ lw_all) (hv : M_fault st a1 = some z) (hR : 6 ≤ R.frames ∧ 136 ≤ R.locals) (hsum : (rest.map fun v => v.category).sum ≤ 8) (hdg : decode cc pc = .ok (.invokevirtual idx, 3)) (hf : cells ≤ R.cells ∧ slots ≤ R.slots)
    (k : ∀ (H1 : Heap) (locs1 : List Loc), GH D A (mAs h) H0 (WM ct h z.1) H1 locs1 → W p l e R s m args below meth c H1 locs1 cells slots Q (F0 m (pc + 3) ls (.int z.2 :: rest))) : W p l e R s m args below meth c H locs cells slots Q (F0 m pc ls (.int a1 :: .ref (h 0) :: rest)) :=
  g_calli (av := [.int a1]) S hl gE_0_ok trivial hK hH (met_M_fault l D ct h H.size st a1 z hv) (lw_V hlk q1019 q1020 q70 q1021) rfl rfl ⟨rfl, by decide, by decide, by show (parseMethodDescriptor yX1_fault.desc).map (fun d => d.parameters.length) = some 1; decide +kernel⟩ hR (m_recv hK hH) (fun _ h => Or.inl h) rfl hsum hdg hf k
end CR_M_fault
/-! CapCouncilModel.begin ([I)V -/
def M_begin_now_L18 : Nat → MS → Int32 → Option MS
  | 0, _, _ => none
  | n + 1, st, x1 =>
    if (6 : Int32) ≤ x1 then
      (some st)
    else
      ((bs_ld (ma st 0) 84 ((17 : Int32) + x1)).bind fun v5 =>
      (mast st 0 84 ((72 : Int32) + x1) v5).bind fun s6 =>
      (bs_ld (ma s6 0) 84 ((23 : Int32) + x1)).bind fun v7 =>
      (mast s6 0 84 ((78 : Int32) + x1) v7).bind fun s8 =>
      bs_let (x1 + (1 : Int32)) fun w9 =>
      M_begin_now_L18 n s8 w9)
def M_begin_now (st : MS) : Option MS :=
  (mast st 0 84 (70 : Int32) (0 : Int32)).bind fun s1 =>
  (bs_ld (ma s1 0) 84 (0 : Int32)).bind fun v2 =>
  (mast s1 0 84 (71 : Int32) (((1 : Int32) <<< (v2 &&& 31)) - (1 : Int32))).bind fun s3 =>
  M_begin_now_L18 bs_fu s3 (0 : Int32)
def rm_M_begin_now : Room := { frames := 0, cells := 0, slots := 0, locals := 0 }
set_option maxHeartbeats 4000000 in
set_option maxRecDepth 100000 in
theorem met_M_begin_now (l : Launch) (D : va_G) (ct : Nat → ClassId) (h : Nat → Nat) (sz : Nat) (st : MS) (z : MS) (hd : M_begin_now st = some z) : Met l yX1_begin (ws_ yX1_begin cX1_begin 2 none) rm_M_begin_now (GPre gE_0 D ct (mAs h) (WM ct h st) sz [.ref (h 1)]) (GQv D (mAs h) (mAs h) (WM ct h z) sz) 0 0 (gA (mAs h) sz) := by
  refine g_met (cc := cX1_begin) (maxL := 2) (ret := none) (by decide) (Nat.le_of_ble_eq_true rfl) ?_
  intro p e U m args below meth c ls S hr hlk hK hH hE hsz hl
  have S : CallFix p m c cX1_begin 2 U args lw_all RX1 := S
  have hx := S.1
  have hb := S.2.1
  have hl : lv_has ls 2 [(0, .ref (h 1))] := hl
  have h18 : ∀ (n18 : Nat) (st : MS) (x1 : Int32) (H : Heap) (locs : List Loc) (ls : Array Slot), GH D (gA (mAs h) sz) (mAs h) U.heap (WM ct h st) H locs → lv_has ls 2 [(0, .ref (h 1)), (1, .int x1)] → M_begin_now_L18 n18 st x1 = some z → W p l e rm_M_begin_now U m args below meth c H locs 0 0 (MQ below (GQv D (mAs h) (mAs h) (WM ct h z) sz) args U 0 0 (gA (mAs h) sz)) (F0 m 18 ls []) := by
    intro n18
    induction n18 with
    | zero =>
      intro st x1 H locs ls hH hl hd
      rw [M_begin_now_L18] at hd
      cases hd
    | succ n18 ih18 =>
      intro st x1 H locs ls hH hl hd
      rw [M_begin_now_L18] at hd
      refine lv_iload_n (pc := 18) hx hb dX1_begin_18 rfl (lv_at hl 1 rfl) ?_
      refine lv_bipush (v := (6 : Int32)) (pc := 19) hx hb dX1_begin_19 (by decide) ?_
      refine lv_icmp_ge (pc := 21) (tgt := 54) hx hb dX1_begin_21 (by decide) (fun c4 => ?_) (fun c4 => ?_)
      · have hd := if_t c4 hd
        exact g_vret (WM ct h) hd S hr hlk hH dX1_begin_54
      · have hd := if_n c4 hd
        refine lv_aload_n (pc := 24) hx hb dX1_begin_24 rfl (lv_at hl 0 rfl) ?_
        refine lv_bipush (v := (72 : Int32)) (pc := 25) hx hb dX1_begin_25 (by decide) ?_
        refine lv_iload_n (pc := 27) hx hb dX1_begin_27 rfl (lv_at hl 1 rfl) ?_
        refine lv_iadd (pc := 28) hx hb dX1_begin_28 ?_
        refine lv_aload_n (pc := 29) hx hb dX1_begin_29 rfl (lv_at hl 0 rfl) ?_
        refine lv_bipush (v := (17 : Int32)) (pc := 30) hx hb dX1_begin_30 (by decide) ?_
        refine lv_iload_n (pc := 32) hx hb dX1_begin_32 rfl (lv_at hl 1 rfl) ?_
        refine lv_iadd (pc := 33) hx hb dX1_begin_33 ?_
        obtain ⟨v5, hv5, hd⟩ := bs_bd hd
        refine ml_now (pc := 34) S hK hH hv5 dX1_begin_34 ?_
        obtain ⟨s6, hs6, hd⟩ := bs_bd hd
        refine ms_now (pc := 35) S hK hH hs6 dX1_begin_35 (fun H locs hH => ?_)
        refine lv_aload_n (pc := 36) hx hb dX1_begin_36 rfl (lv_at hl 0 rfl) ?_
        refine lv_bipush (v := (78 : Int32)) (pc := 37) hx hb dX1_begin_37 (by decide) ?_
        refine lv_iload_n (pc := 39) hx hb dX1_begin_39 rfl (lv_at hl 1 rfl) ?_
        refine lv_iadd (pc := 40) hx hb dX1_begin_40 ?_
        refine lv_aload_n (pc := 41) hx hb dX1_begin_41 rfl (lv_at hl 0 rfl) ?_
        refine lv_bipush (v := (23 : Int32)) (pc := 42) hx hb dX1_begin_42 (by decide) ?_
        refine lv_iload_n (pc := 44) hx hb dX1_begin_44 rfl (lv_at hl 1 rfl) ?_
        refine lv_iadd (pc := 45) hx hb dX1_begin_45 ?_
        obtain ⟨v7, hv7, hd⟩ := bs_bd hd
        refine ml_now (pc := 46) S hK hH hv7 dX1_begin_46 ?_
        obtain ⟨s8, hs8, hd⟩ := bs_bd hd
        refine ms_now (pc := 47) S hK hH hs8 dX1_begin_47 (fun H locs hH => ?_)
        obtain ⟨w9, ew9, hd⟩ := bs_let_spec hd
        refine lv_iinc (pc := 48) (v := w9) (lv' := [(1, .int w9), (0, .ref (h 1))]) hx hb dX1_begin_48 hl (k := 1) rfl (by rw [ew9]; rfl) (by decide) rfl (fun ls hl => ?_)
        refine lv_goto (pc := 51) (tgt := 18) hx hb dX1_begin_51 (by decide) ?_
        exact ih18 s8 w9 _ _ _ hH (lv_sub hl [1, 0] rfl) hd
  unfold M_begin_now at hd
  refine lv_aload_n (pc := 0) hx hb dX1_begin_0 rfl (lv_at hl 0 rfl) ?_
  refine lv_bipush (v := (70 : Int32)) (pc := 1) hx hb dX1_begin_1 (by decide) ?_
  refine lv_iconst (v := (0 : Int32)) (pc := 3) hx hb dX1_begin_3 (by decide) ?_
  obtain ⟨s1, hs1, hd⟩ := bs_bd hd
  refine ms_now (pc := 4) S hK hH hs1 dX1_begin_4 (fun H locs hH => ?_)
  refine lv_aload_n (pc := 5) hx hb dX1_begin_5 rfl (lv_at hl 0 rfl) ?_
  refine lv_bipush (v := (71 : Int32)) (pc := 6) hx hb dX1_begin_6 (by decide) ?_
  refine lv_iconst (v := (1 : Int32)) (pc := 8) hx hb dX1_begin_8 (by decide) ?_
  refine lv_aload_n (pc := 9) hx hb dX1_begin_9 rfl (lv_at hl 0 rfl) ?_
  refine lv_iconst (v := (0 : Int32)) (pc := 10) hx hb dX1_begin_10 (by decide) ?_
  obtain ⟨v2, hv2, hd⟩ := bs_bd hd
  refine ml_now (pc := 11) S hK hH hv2 dX1_begin_11 ?_
  refine lv_ishl (pc := 12) hx hb dX1_begin_12 ?_
  refine lv_iconst (v := (1 : Int32)) (pc := 13) hx hb dX1_begin_13 (by decide) ?_
  refine lv_isub (pc := 14) hx hb dX1_begin_14 ?_
  obtain ⟨s3, hs3, hd⟩ := bs_bd hd
  refine ms_now (pc := 15) S hK hH hs3 dX1_begin_15 (fun H locs hH => ?_)
  refine lv_iconst (v := (0 : Int32)) (pc := 16) hx hb dX1_begin_16 (by decide) ?_
  refine lv_istore_n (pc := 17) (lv' := [(1, .int (0 : Int32)), (0, .ref (h 1))]) hx hb dX1_begin_17 rfl hl (by decide) rfl (fun ls hl => ?_)
  exact h18 bs_fu s3 (0 : Int32) _ _ _ hH (lv_sub hl [1, 0] rfl) hd
section CR_M_begin_now
variable {p : Program} {l : Launch} {e : Env} {R : Room} {s : State} {m : MethodId} {args : Array Value} {below : List Frame} {meth : Method} {c : Code} {H : Heap} {locs : List Loc} {cells slots : Nat} {Q : State → Prop}
variable {cc : ByteArray} {pc nL idx : Nat} {ls : Array Slot} {rest : List Value} {lv : List (Nat × Value)} {A : Nat → Prop} {H0 : Heap} {own : String}
theorem call_M_begin_now {D : va_G} {ct : Nat → ClassId} {h : Nat → Nat} {st : MS} {z : MS} (S : CallFix p m c cc nL s args lw_all own) (hl : lv_has ls nL lv) (hK : va_K D clA (tysG ct) s) (hH : GH D A (mAs h) H0 (WM ct h st) H locs) (hlk : Cond.methodLink own idx yX1_begin ∈ lw_all) (hv : M_begin_now st = some z) (hR : 1 ≤ R.frames ∧ 21 ≤ R.locals) (hsum : (rest.map fun v => v.category).sum ≤ 8) (hdg : decode cc pc = .ok (.invokestatic idx, 3)) (hf : cells ≤ R.cells ∧ slots ≤ R.slots)
    (k : ∀ (H1 : Heap) (locs1 : List Loc), GH D A (mAs h) H0 (WM ct h z) H1 locs1 → W p l e R s m args below meth c H1 locs1 cells slots Q (F0 m (pc + 3) ls (rest))) : W p l e R s m args below meth c H locs cells slots Q (F0 m pc ls (.ref (h 1) :: rest)) :=
  g_callsv (av := [.ref (h 1)]) S hl gE_0_ok trivial hK hH (met_M_begin_now l D ct h H.size st z hv) (lw_S hlk q1060 q70 q1061) rfl rfl ⟨by decide, by decide, by show (parseMethodDescriptor yX1_begin.desc).map (fun d => d.parameters.length) = some 1; decide +kernel⟩ hR (fun _ h => Or.inl h) rfl hsum hdg hf k
end CR_M_begin_now
/-! CapCouncilModel.parish (I)I -/
def M_parish_L39 (k63 : MS → Option (MS × Int32)) (a1 : Int32) : Nat → MS → Int32 → Option (MS × Int32)
  | 0, _, _ => none
  | n + 1, st, x2 =>
    if (29 : Int32) ≤ x2 then
      (k63 st)
    else
      ((bs_ld (ma st 9) 84 x2).bind fun v9 =>
      (mast st 0 84 x2 v9).bind fun s10 =>
      bs_let (x2 + (1 : Int32)) fun w11 =>
      M_parish_L39 k63 a1 n s10 w11)
def M_parish_L80 (a1 : Int32) : Nat → MS → Int32 → Option (MS × Int32)
  | 0, _, _ => none
  | n + 1, st, x2 =>
    if (3 : Int32) ≤ x2 then
      ((bs_ld (ma st 0) 84 (0 : Int32)).bind fun v15 =>
      some (st, v15))
    else
      ((mast st 2 3 x2 (0 : Int32)).bind fun s16 =>
      bs_let (x2 + (1 : Int32)) fun w17 =>
      M_parish_L80 a1 n s16 w17)
def M_parish_J63 (a1 : Int32) (st : MS) : Option (MS × Int32) :=
  (mast st 0 84 (29 : Int32) (0 : Int32)).bind fun s12 =>
  (M_begin_now s12).bind fun q13 =>
  M_parish_L80 a1 bs_fu q13 (0 : Int32)
def M_parish (st : MS) (a1 : Int32) : Option (MS × Int32) :=
  (M_isText a1).bind fun v1 =>
  if v1 = 0 then
    (some (st, (-1 : Int32)))
  else
    ((bs_ld (ma st 6) 4 a1).bind fun v3 =>
    if 0 ≤ v3 then
      ((M_faultOf st a1).bind fun q5 =>
      if q5.2 = (-9 : Int32) then
        (M_parish_L39 (M_parish_J63 a1) a1 bs_fu q5.1 (0 : Int32))
      else
        (some (q5.1, (-4 : Int32))))
    else
      ((M_finds st (1 : Int32)).bind fun q7 =>
      some (q7.1, q7.2)))
def rm_M_parish : Room := { frames := 5, cells := 0, slots := 0, locals := 115 }
set_option maxHeartbeats 4000000 in
set_option maxRecDepth 100000 in
theorem met_M_parish (l : Launch) (D : va_G) (ct : Nat → ClassId) (h : Nat → Nat) (sz : Nat) (st : MS) (a1 : Int32) (z : (MS × Int32)) (hd : M_parish st a1 = some z) : Met l yX1_parish (ws_ yX1_parish cX1_parish 3 (some .int)) rm_M_parish (GPre gE_0 D ct (mAs h) (WM ct h st) sz [.ref (h 0), .int a1]) (GQi D (mAs h) (mAs h) (WM ct h z.1) sz z.2) 0 0 (gA (mAs h) sz) := by
  refine g_met (cc := cX1_parish) (maxL := 3) (ret := (some .int)) (by decide) (Nat.le_of_ble_eq_true rfl) ?_
  intro p e U m args below meth c ls S hr hlk hK hH hE hsz hl
  have S : CallFix p m c cX1_parish 3 U args lw_all RX1 := S
  have hx := S.1
  have hb := S.2.1
  have hl : lv_has ls 3 [(0, .ref (h 0)), (1, .int a1)] := hl
  have h80 : ∀ (n80 : Nat) (st : MS) (x2 : Int32) (H : Heap) (locs : List Loc) (ls : Array Slot), GH D (gA (mAs h) sz) (mAs h) U.heap (WM ct h st) H locs → lv_has ls 3 [(0, .ref (h 0)), (1, .int a1), (2, .int x2)] → M_parish_L80 a1 n80 st x2 = some z → W p l e rm_M_parish U m args below meth c H locs 0 0 (MQ below (GQi D (mAs h) (mAs h) (WM ct h z.1) sz z.2) args U 0 0 (gA (mAs h) sz)) (F0 m 80 ls []) := by
    intro n80
    induction n80 with
    | zero =>
      intro st x2 H locs ls hH hl hd
      rw [M_parish_L80] at hd
      cases hd
    | succ n80 ih80 =>
      intro st x2 H locs ls hH hl hd
      rw [M_parish_L80] at hd
      refine lv_iload_n (pc := 80) hx hb dX1_parish_80 rfl (lv_at hl 2 rfl) ?_
      refine lv_iconst (v := (3 : Int32)) (pc := 81) hx hb dX1_parish_81 (by decide) ?_
      refine lv_icmp_ge (pc := 82) (tgt := 98) hx hb dX1_parish_82 (by decide) (fun c14 => ?_) (fun c14 => ?_)
      · have hd := if_t c14 hd
        refine lv_aload_n (pc := 98) hx hb dX1_parish_98 rfl (lv_at hl 0 rfl) ?_
        refine mg_now (pc := 99) S hK hH dX1_parish_99 ?_
        refine lv_iconst (v := (0 : Int32)) (pc := 102) hx hb dX1_parish_102 (by decide) ?_
        obtain ⟨v15, hv15, hd⟩ := bs_bd hd
        refine ml_now (pc := 103) S hK hH hv15 dX1_parish_103 ?_
        exact g_iret (WM ct h) hd S hr hlk hH dX1_parish_104
      · have hd := if_n c14 hd
        refine lv_aload_n (pc := 85) hx hb dX1_parish_85 rfl (lv_at hl 0 rfl) ?_
        refine mg_isKept (pc := 86) S hK hH dX1_parish_86 ?_
        refine lv_iload_n (pc := 89) hx hb dX1_parish_89 rfl (lv_at hl 2 rfl) ?_
        refine lv_iconst (v := (0 : Int32)) (pc := 90) hx hb dX1_parish_90 (by decide) ?_
        obtain ⟨s16, hs16, hd⟩ := bs_bd hd
        refine ms_isKept (pc := 91) S hK hH rfl hs16 dX1_parish_91 (fun H locs hH => ?_)
        obtain ⟨w17, ew17, hd⟩ := bs_let_spec hd
        refine lv_iinc (pc := 92) (v := w17) (lv' := [(2, .int w17), (0, .ref (h 0)), (1, .int a1)]) hx hb dX1_parish_92 hl (k := 2) rfl (by rw [ew17]; rfl) (by decide) rfl (fun ls hl => ?_)
        refine lv_goto (pc := 95) (tgt := 80) hx hb dX1_parish_95 (by decide) ?_
        exact ih80 s16 w17 _ _ _ hH (lv_sub hl [1, 2, 0] rfl) hd
  have h63 : ∀ (st : MS) (H : Heap) (locs : List Loc) (ls : Array Slot), GH D (gA (mAs h) sz) (mAs h) U.heap (WM ct h st) H locs → lv_has ls 3 [(0, .ref (h 0)), (1, .int a1)] → M_parish_J63 a1 st = some z → W p l e rm_M_parish U m args below meth c H locs 0 0 (MQ below (GQi D (mAs h) (mAs h) (WM ct h z.1) sz z.2) args U 0 0 (gA (mAs h) sz)) (F0 m 63 ls []) := by
    intro st H locs ls hH hl hd
    unfold M_parish_J63 at hd
    refine lv_aload_n (pc := 63) hx hb dX1_parish_63 rfl (lv_at hl 0 rfl) ?_
    refine mg_now (pc := 64) S hK hH dX1_parish_64 ?_
    refine lv_bipush (v := (29 : Int32)) (pc := 67) hx hb dX1_parish_67 (by decide) ?_
    refine lv_iconst (v := (0 : Int32)) (pc := 69) hx hb dX1_parish_69 (by decide) ?_
    obtain ⟨s12, hs12, hd⟩ := bs_bd hd
    refine ms_now (pc := 70) S hK hH hs12 dX1_parish_70 (fun H locs hH => ?_)
    refine lv_aload_n (pc := 71) hx hb dX1_parish_71 rfl (lv_at hl 0 rfl) ?_
    refine mg_now (pc := 72) S hK hH dX1_parish_72 ?_
    obtain ⟨q13, hq13, hd⟩ := bs_bd hd
    refine call_M_begin_now (pc := 75) S hl hK hH q1059 hq13 ⟨Nat.le_of_ble_eq_true rfl, Nat.le_of_ble_eq_true rfl⟩ (Nat.le_of_ble_eq_true rfl) dX1_parish_75 ⟨Nat.zero_le _, Nat.zero_le _⟩ (fun H locs hH => ?_)
    refine lv_iconst (v := (0 : Int32)) (pc := 78) hx hb dX1_parish_78 (by decide) ?_
    refine lv_istore_n (pc := 79) (lv' := [(2, .int (0 : Int32)), (0, .ref (h 0)), (1, .int a1)]) hx hb dX1_parish_79 rfl hl (by decide) rfl (fun ls hl => ?_)
    exact h80 bs_fu q13 (0 : Int32) _ _ _ hH (lv_sub hl [1, 2, 0] rfl) hd
  have h39 : ∀ (n39 : Nat) (st : MS) (x2 : Int32) (H : Heap) (locs : List Loc) (ls : Array Slot), GH D (gA (mAs h) sz) (mAs h) U.heap (WM ct h st) H locs → lv_has ls 3 [(0, .ref (h 0)), (1, .int a1), (2, .int x2)] → M_parish_L39 (M_parish_J63 a1) a1 n39 st x2 = some z → W p l e rm_M_parish U m args below meth c H locs 0 0 (MQ below (GQi D (mAs h) (mAs h) (WM ct h z.1) sz z.2) args U 0 0 (gA (mAs h) sz)) (F0 m 39 ls []) := by
    intro n39
    induction n39 with
    | zero =>
      intro st x2 H locs ls hH hl hd
      rw [M_parish_L39] at hd
      cases hd
    | succ n39 ih39 =>
      intro st x2 H locs ls hH hl hd
      rw [M_parish_L39] at hd
      refine lv_iload_n (pc := 39) hx hb dX1_parish_39 rfl (lv_at hl 2 rfl) ?_
      refine lv_bipush (v := (29 : Int32)) (pc := 40) hx hb dX1_parish_40 (by decide) ?_
      refine lv_icmp_ge (pc := 42) (tgt := 63) hx hb dX1_parish_42 (by decide) (fun c8 => ?_) (fun c8 => ?_)
      · have hd := if_t c8 hd
        exact h63 st _ _ _ hH (lv_sub hl [0, 1] rfl) hd
      · have hd := if_n c8 hd
        refine lv_aload_n (pc := 45) hx hb dX1_parish_45 rfl (lv_at hl 0 rfl) ?_
        refine mg_now (pc := 46) S hK hH dX1_parish_46 ?_
        refine lv_iload_n (pc := 49) hx hb dX1_parish_49 rfl (lv_at hl 2 rfl) ?_
        refine lv_aload_n (pc := 50) hx hb dX1_parish_50 rfl (lv_at hl 0 rfl) ?_
        refine mg_anew (pc := 51) S hK hH dX1_parish_51 ?_
        refine lv_iload_n (pc := 54) hx hb dX1_parish_54 rfl (lv_at hl 2 rfl) ?_
        obtain ⟨v9, hv9, hd⟩ := bs_bd hd
        refine ml_anew (pc := 55) S hK hH hv9 dX1_parish_55 ?_
        obtain ⟨s10, hs10, hd⟩ := bs_bd hd
        refine ms_now (pc := 56) S hK hH hs10 dX1_parish_56 (fun H locs hH => ?_)
        obtain ⟨w11, ew11, hd⟩ := bs_let_spec hd
        refine lv_iinc (pc := 57) (v := w11) (lv' := [(2, .int w11), (0, .ref (h 0)), (1, .int a1)]) hx hb dX1_parish_57 hl (k := 2) rfl (by rw [ew11]; rfl) (by decide) rfl (fun ls hl => ?_)
        refine lv_goto (pc := 60) (tgt := 39) hx hb dX1_parish_60 (by decide) ?_
        exact ih39 s10 w11 _ _ _ hH (lv_sub hl [1, 2, 0] rfl) hd
  unfold M_parish at hd
  refine lv_iload_n (pc := 0) hx hb dX1_parish_0 rfl (lv_at hl 1 rfl) ?_
  obtain ⟨v1, hv1, hd⟩ := bs_bd hd
  refine call_M_isText (pc := 1) S hl q1010 hv1 ⟨Nat.le_of_ble_eq_true rfl, Nat.le_of_ble_eq_true rfl⟩ (Nat.le_of_ble_eq_true rfl) dX1_parish_1 ⟨Nat.zero_le _, Nat.zero_le _⟩ ?_
  refine lv_if_ne (pc := 4) (tgt := 9) hx hb dX1_parish_4 (by decide) (fun c2 => ?_) (fun c2 => ?_)
  · have hd := if_n c2 hd
    refine lv_aload_n (pc := 9) hx hb dX1_parish_9 rfl (lv_at hl 0 rfl) ?_
    refine mg_textLong (pc := 10) S hK hH dX1_parish_10 ?_
    refine lv_iload_n (pc := 13) hx hb dX1_parish_13 rfl (lv_at hl 1 rfl) ?_
    obtain ⟨v3, hv3, hd⟩ := bs_bd hd
    refine ml_textLong (pc := 14) S hK hH hv3 dX1_parish_14 ?_
    refine lv_if_ge (pc := 15) (tgt := 24) hx hb dX1_parish_15 (by decide) (fun c4 => ?_) (fun c4 => ?_)
    · have hd := if_t c4 hd
      refine lv_aload_n (pc := 24) hx hb dX1_parish_24 rfl (lv_at hl 0 rfl) ?_
      refine lv_iload_n (pc := 25) hx hb dX1_parish_25 rfl (lv_at hl 1 rfl) ?_
      obtain ⟨q5, hq5, hd⟩ := bs_bd hd
      refine call_M_faultOf (pc := 26) S hl hK hH q1022 hq5 ⟨Nat.le_of_ble_eq_true rfl, Nat.le_of_ble_eq_true rfl⟩ (Nat.le_of_ble_eq_true rfl) dX1_parish_26 ⟨Nat.zero_le _, Nat.zero_le _⟩ (fun H locs hH => ?_)
      refine lv_bipush (v := (-9 : Int32)) (pc := 29) hx hb dX1_parish_29 (by decide) ?_
      refine lv_icmp_eq (pc := 31) (tgt := 37) hx hb dX1_parish_31 (by decide) (fun c6 => ?_) (fun c6 => ?_)
      · have hd := if_t c6 hd
        refine lv_iconst (v := (0 : Int32)) (pc := 37) hx hb dX1_parish_37 (by decide) ?_
        refine lv_istore_n (pc := 38) (lv' := [(2, .int (0 : Int32)), (0, .ref (h 0)), (1, .int a1)]) hx hb dX1_parish_38 rfl hl (by decide) rfl (fun ls hl => ?_)
        exact h39 bs_fu q5.1 (0 : Int32) _ _ _ hH (lv_sub hl [1, 2, 0] rfl) hd
      · have hd := if_n c6 hd
        refine lv_bipush (v := (-4 : Int32)) (pc := 34) hx hb dX1_parish_34 (by decide) ?_
        exact g_iret (WM ct h) hd S hr hlk hH dX1_parish_36
    · have hd := if_n c4 hd
      refine lv_aload_n (pc := 18) hx hb dX1_parish_18 rfl (lv_at hl 0 rfl) ?_
      refine lv_iconst (v := (1 : Int32)) (pc := 19) hx hb dX1_parish_19 (by decide) ?_
      obtain ⟨q7, hq7, hd⟩ := bs_bd hd
      refine call_M_finds (pc := 20) S hl hK hH q977 hq7 ⟨Nat.le_of_ble_eq_true rfl, Nat.le_of_ble_eq_true rfl⟩ (Nat.le_of_ble_eq_true rfl) dX1_parish_20 ⟨Nat.zero_le _, Nat.zero_le _⟩ (fun H locs hH => ?_)
      exact g_iret (WM ct h) hd S hr hlk hH dX1_parish_23
  · have hd := if_t c2 hd
    refine lv_iconst (v := (-1 : Int32)) (pc := 7) hx hb dX1_parish_7 (by decide) ?_
    exact g_iret (WM ct h) hd S hr hlk hH dX1_parish_8
section CR_M_parish
variable {p : Program} {l : Launch} {e : Env} {R : Room} {s : State} {m : MethodId} {args : Array Value} {below : List Frame} {meth : Method} {c : Code} {H : Heap} {locs : List Loc} {cells slots : Nat} {Q : State → Prop}
variable {cc : ByteArray} {pc nL idx : Nat} {ls : Array Slot} {rest : List Value} {lv : List (Nat × Value)} {A : Nat → Prop} {H0 : Heap} {own : String}
theorem call_M_parish {D : va_G} {ct : Nat → ClassId} {h : Nat → Nat} {st : MS} {a1 : Int32} {z : (MS × Int32)} (S : CallFix p m c cc nL s args lw_all own) (hl : lv_has ls nL lv) (hK : va_K D clA (tysG ct) s) (hH : GH D A (mAs h) H0 (WM ct h st) H locs) (hlk : Cond.methodLink own idx yX1_parish ∈ lw_all) (hv : M_parish st a1 = some z) (hR : 6 ≤ R.frames ∧ 137 ≤ R.locals) (hsum : (rest.map fun v => v.category).sum ≤ 8) (hdg : decode cc pc = .ok (.invokevirtual idx, 3)) (hf : cells ≤ R.cells ∧ slots ≤ R.slots)
    (k : ∀ (H1 : Heap) (locs1 : List Loc), GH D A (mAs h) H0 (WM ct h z.1) H1 locs1 → W p l e R s m args below meth c H1 locs1 cells slots Q (F0 m (pc + 3) ls (.int z.2 :: rest))) : W p l e R s m args below meth c H locs cells slots Q (F0 m pc ls (.int a1 :: .ref (h 0) :: rest)) :=
  g_calli (av := [.int a1]) S hl gE_0_ok trivial hK hH (met_M_parish l D ct h H.size st a1 z hv) (lw_V hlk q1056 q1057 q70 q1058) rfl rfl ⟨rfl, by decide, by decide, by show (parseMethodDescriptor yX1_parish.desc).map (fun d => d.parameters.length) = some 1; decide +kernel⟩ hR (m_recv hK hH) (fun _ h => Or.inl h) rfl hsum hdg hf k
end CR_M_parish
/-! CapCouncilModel.isRing (I)Z -/
def M_isRing (st : MS) (a1 : Int32) : Option Int32 :=
  (bs_ld (ma st 0) 84 (0 : Int32)).bind fun v1 =>
  (M_in (a1.toInt64) (0 : Int64) (((v1 - (1 : Int32))).toInt64)).bind fun v2 =>
  bs_gb v2 (some v2)
def rm_M_isRing : Room := { frames := 1, cells := 0, slots := 0, locals := 25 }
set_option maxHeartbeats 4000000 in
set_option maxRecDepth 100000 in
theorem met_M_isRing (l : Launch) (D : va_G) (ct : Nat → ClassId) (h : Nat → Nat) (sz : Nat) (st : MS) (a1 : Int32) (z : Int32) (hd : M_isRing st a1 = some z) : Met l yX1_isRing (ws_ yX1_isRing cX1_isRing 2 (some .boolean)) rm_M_isRing (GPre gE_0 D ct (mAs h) (WM ct h st) sz [.ref (h 0), .int a1]) (vp_Si (fun r => r = z)) 0 0 (fun _ => False) := by
  refine g_met (cc := cX1_isRing) (maxL := 2) (ret := (some .boolean)) (by decide) (Nat.le_of_ble_eq_true rfl) ?_
  intro p e U m args below meth c ls S hr hlk hK hH hE hsz hl
  have S : CallFix p m c cX1_isRing 2 U args lw_all RX1 := S
  have hx := S.1
  have hb := S.2.1
  have hl : lv_has ls 2 [(0, .ref (h 0)), (1, .int a1)] := hl
  unfold M_isRing at hd
  refine lv_iload_n (pc := 0) hx hb dX1_isRing_0 rfl (lv_at hl 1 rfl) ?_
  refine lv_i2l (pc := 1) hx hb dX1_isRing_1 rfl ?_
  refine lv_lconst (v := (0 : Int64)) (pc := 2) hx hb dX1_isRing_2 (by decide) ?_
  refine lv_aload_n (pc := 3) hx hb dX1_isRing_3 rfl (lv_at hl 0 rfl) ?_
  refine mg_now (pc := 4) S hK hH dX1_isRing_4 ?_
  refine lv_iconst (v := (0 : Int32)) (pc := 7) hx hb dX1_isRing_7 (by decide) ?_
  obtain ⟨v1, hv1, hd⟩ := bs_bd hd
  refine ml_now (pc := 8) S hK hH hv1 dX1_isRing_8 ?_
  refine lv_iconst (v := (1 : Int32)) (pc := 9) hx hb dX1_isRing_9 (by decide) ?_
  refine lv_isub (pc := 10) hx hb dX1_isRing_10 ?_
  refine lv_i2l (pc := 11) hx hb dX1_isRing_11 rfl ?_
  obtain ⟨v2, hv2, hd⟩ := bs_bd hd
  refine call_M_in (pc := 12) S hl q974 hv2 ⟨Nat.le_of_ble_eq_true rfl, Nat.le_of_ble_eq_true rfl⟩ (Nat.le_of_ble_eq_true rfl) dX1_isRing_12 ⟨Nat.zero_le _, Nat.zero_le _⟩ ?_
  obtain ⟨hn3, hd⟩ := bs_gb_spec hd
  exact r_zret hn3 hd S hr hlk dX1_isRing_15
section CR_M_isRing
variable {p : Program} {l : Launch} {e : Env} {R : Room} {s : State} {m : MethodId} {args : Array Value} {below : List Frame} {meth : Method} {c : Code} {H : Heap} {locs : List Loc} {cells slots : Nat} {Q : State → Prop}
variable {cc : ByteArray} {pc nL idx : Nat} {ls : Array Slot} {rest : List Value} {lv : List (Nat × Value)} {A : Nat → Prop} {H0 : Heap} {own : String}
theorem call_M_isRing {D : va_G} {ct : Nat → ClassId} {h : Nat → Nat} {st : MS} {a1 : Int32} {z : Int32} (S : CallFix p m c cc nL s args lw_all own) (hl : lv_has ls nL lv) (hK : va_K D clA (tysG ct) s) (hH : GH D A (mAs h) H0 (WM ct h st) H locs) (hlk : Cond.methodLink own idx yX1_isRing ∈ lw_all) (hv : M_isRing st a1 = some z) (hR : 2 ≤ R.frames ∧ 46 ≤ R.locals) (hsum : (rest.map fun v => v.category).sum ≤ 8) (hdg : decode cc pc = .ok (.invokevirtual idx, 3)) (hf : cells ≤ R.cells ∧ slots ≤ R.slots)
    (k : W p l e R s m args below meth c H locs cells slots Q (F0 m (pc + 3) ls (.int z :: rest))) : W p l e R s m args below meth c H locs cells slots Q (F0 m pc ls (.int a1 :: .ref (h 0) :: rest)) :=
  r_calli (av := [.int a1]) S hl gE_0_ok trivial hK hH (met_M_isRing l D ct h H.size st a1 z hv) (lw_V hlk q1068 qs45 q70 q1069) rfl rfl ⟨rfl, by decide, by decide, by show (parseMethodDescriptor yX1_isRing.desc).map (fun d => d.parameters.length) = some 1; decide +kernel⟩ hR (m_recv hK hH) rfl hsum hdg hf k
end CR_M_isRing
/-! CapCouncilModel.has (II)Z -/
def M_has (a0 : Int32) (a1 : Int32) : Option Int32 :=
  if ((a0 >>> (a1 &&& 31)) &&& (1 : Int32)) = (1 : Int32) then
    (some (1 : Int32))
  else
    (some (0 : Int32))
def rm_M_has : Room := { frames := 0, cells := 0, slots := 0, locals := 0 }
set_option maxHeartbeats 4000000 in
set_option maxRecDepth 100000 in
theorem met_M_has (l : Launch) (a0 : Int32) (a1 : Int32) (z : Int32) (hd : M_has a0 a1 = some z) : Met l yX1_has (ws_ yX1_has cX1_has 2 (some .boolean)) rm_M_has (va_Pc [.int a0, .int a1] (fun _ => True)) (vp_Si (fun r => r = z)) 0 0 (fun _ => False) := by
  refine p_met (cc := cX1_has) (maxL := 2) (ret := (some .boolean)) (by decide) (Nat.le_of_ble_eq_true rfl) ?_
  intro p e U m args below meth c ls S hr hlk hl
  have S : CallFix p m c cX1_has 2 U args lw_all RX1 := S
  have hx := S.1
  have hb := S.2.1
  have hl : lv_has ls 2 [(0, .int a0), (1, .int a1)] := hl
  unfold M_has at hd
  refine lv_iload_n (pc := 0) hx hb dX1_has_0 rfl (lv_at hl 0 rfl) ?_
  refine lv_iload_n (pc := 1) hx hb dX1_has_1 rfl (lv_at hl 1 rfl) ?_
  refine lv_ishr (pc := 2) hx hb dX1_has_2 ?_
  refine lv_iconst (v := (1 : Int32)) (pc := 3) hx hb dX1_has_3 (by decide) ?_
  refine lv_iand (pc := 4) hx hb dX1_has_4 ?_
  refine lv_iconst (v := (1 : Int32)) (pc := 5) hx hb dX1_has_5 (by decide) ?_
  refine lv_icmp_ne (pc := 6) (tgt := 13) hx hb dX1_has_6 (by decide) (fun c1 => ?_) (fun c1 => ?_)
  · have hd := if_n c1 hd
    refine lv_iconst (v := (0 : Int32)) (pc := 13) hx hb dX1_has_13 (by decide) ?_
    exact r_zret rfl hd S hr hlk dX1_has_14
  · have hd := if_t c1 hd
    refine lv_iconst (v := (1 : Int32)) (pc := 9) hx hb dX1_has_9 (by decide) ?_
    refine lv_goto (pc := 10) (tgt := 14) hx hb dX1_has_10 (by decide) ?_
    exact r_zret rfl hd S hr hlk dX1_has_14
section CR_M_has
variable {p : Program} {l : Launch} {e : Env} {R : Room} {s : State} {m : MethodId} {args : Array Value} {below : List Frame} {meth : Method} {c : Code} {H : Heap} {locs : List Loc} {cells slots : Nat} {Q : State → Prop}
variable {cc : ByteArray} {pc nL idx : Nat} {ls : Array Slot} {rest : List Value} {lv : List (Nat × Value)} {A : Nat → Prop} {H0 : Heap} {own : String}
theorem call_M_has {a0 : Int32} {a1 : Int32} {z : Int32} (S : CallFix p m c cc nL s args lw_all own) (hl : lv_has ls nL lv) (hlk : Cond.methodLink own idx yX1_has ∈ lw_all) (hv : M_has a0 a1 = some z) (hR : 1 ≤ R.frames ∧ 21 ≤ R.locals) (hsum : (rest.map fun v => v.category).sum ≤ 8) (hdg : decode cc pc = .ok (.invokestatic idx, 3)) (hf : cells ≤ R.cells ∧ slots ≤ R.slots)
    (k : W p l e R s m args below meth c H locs cells slots Q (F0 m (pc + 3) ls (.int z :: rest))) : W p l e R s m args below meth c H locs cells slots Q (F0 m pc ls (.int a1 :: .int a0 :: rest)) :=
  p_calli (av := [.int a0, .int a1]) S hl (met_M_has l a0 a1 z hv) (lw_S hlk q1076 q70 q1077) rfl rfl ⟨by decide, by decide, by show (parseMethodDescriptor yX1_has.desc).map (fun d => d.parameters.length) = some 2; decide +kernel⟩ hR rfl hsum hdg hf k
end CR_M_has
/-! CapCouncilModel.reachOf (II)I -/
def M_reachOf (a0 : Int32) (a1 : Int32) : Option Int32 :=
  if (a0 + a1) ≤ (18 : Int32) then
    (some (a0 + a1))
  else
    (some (18 : Int32))
def rm_M_reachOf : Room := { frames := 0, cells := 0, slots := 0, locals := 0 }
set_option maxHeartbeats 4000000 in
set_option maxRecDepth 100000 in
theorem met_M_reachOf (l : Launch) (a0 : Int32) (a1 : Int32) (z : Int32) (hd : M_reachOf a0 a1 = some z) : Met l yX1_reachOf (ws_ yX1_reachOf cX1_reachOf 2 (some .int)) rm_M_reachOf (va_Pc [.int a0, .int a1] (fun _ => True)) (vp_Si (fun r => r = z)) 0 0 (fun _ => False) := by
  refine p_met (cc := cX1_reachOf) (maxL := 2) (ret := (some .int)) (by decide) (Nat.le_of_ble_eq_true rfl) ?_
  intro p e U m args below meth c ls S hr hlk hl
  have S : CallFix p m c cX1_reachOf 2 U args lw_all RX1 := S
  have hx := S.1
  have hb := S.2.1
  have hl : lv_has ls 2 [(0, .int a0), (1, .int a1)] := hl
  unfold M_reachOf at hd
  refine lv_iload_n (pc := 0) hx hb dX1_reachOf_0 rfl (lv_at hl 0 rfl) ?_
  refine lv_iload_n (pc := 1) hx hb dX1_reachOf_1 rfl (lv_at hl 1 rfl) ?_
  refine lv_iadd (pc := 2) hx hb dX1_reachOf_2 ?_
  refine lv_bipush (v := (18 : Int32)) (pc := 3) hx hb dX1_reachOf_3 (by decide) ?_
  refine lv_icmp_le (pc := 5) (tgt := 13) hx hb dX1_reachOf_5 (by decide) (fun c1 => ?_) (fun c1 => ?_)
  · have hd := if_t c1 hd
    refine lv_iload_n (pc := 13) hx hb dX1_reachOf_13 rfl (lv_at hl 0 rfl) ?_
    refine lv_iload_n (pc := 14) hx hb dX1_reachOf_14 rfl (lv_at hl 1 rfl) ?_
    refine lv_iadd (pc := 15) hx hb dX1_reachOf_15 ?_
    exact r_iret hd S hr hlk dX1_reachOf_16
  · have hd := if_n c1 hd
    refine lv_bipush (v := (18 : Int32)) (pc := 8) hx hb dX1_reachOf_8 (by decide) ?_
    refine lv_goto (pc := 10) (tgt := 16) hx hb dX1_reachOf_10 (by decide) ?_
    exact r_iret hd S hr hlk dX1_reachOf_16
section CR_M_reachOf
variable {p : Program} {l : Launch} {e : Env} {R : Room} {s : State} {m : MethodId} {args : Array Value} {below : List Frame} {meth : Method} {c : Code} {H : Heap} {locs : List Loc} {cells slots : Nat} {Q : State → Prop}
variable {cc : ByteArray} {pc nL idx : Nat} {ls : Array Slot} {rest : List Value} {lv : List (Nat × Value)} {A : Nat → Prop} {H0 : Heap} {own : String}
theorem call_M_reachOf {a0 : Int32} {a1 : Int32} {z : Int32} (S : CallFix p m c cc nL s args lw_all own) (hl : lv_has ls nL lv) (hlk : Cond.methodLink own idx yX1_reachOf ∈ lw_all) (hv : M_reachOf a0 a1 = some z) (hR : 1 ≤ R.frames ∧ 21 ≤ R.locals) (hsum : (rest.map fun v => v.category).sum ≤ 8) (hdg : decode cc pc = .ok (.invokestatic idx, 3)) (hf : cells ≤ R.cells ∧ slots ≤ R.slots)
    (k : W p l e R s m args below meth c H locs cells slots Q (F0 m (pc + 3) ls (.int z :: rest))) : W p l e R s m args below meth c H locs cells slots Q (F0 m pc ls (.int a1 :: .int a0 :: rest)) :=
  p_calli (av := [.int a0, .int a1]) S hl (met_M_reachOf l a0 a1 z hv) (lw_S hlk q1079 q70 q1080) rfl rfl ⟨by decide, by decide, by show (parseMethodDescriptor yX1_reachOf.desc).map (fun d => d.parameters.length) = some 2; decide +kernel⟩ hR rfl hsum hdg hf k
end CR_M_reachOf
/-! CapCouncilModel.distance (II)I -/
def M_distance_J30 (a0 : Int32) (a1 : Int32) (x3 : Int32) (y0 : Int32) : Option Int32 :=
  if 0 ≤ x3 then
    (some (y0 + x3))
  else
    (some (y0 + (-x3)))
def M_distance (a0 : Int32) (a1 : Int32) : Option Int32 :=
  bs_let ((a0 / (10 : Int32)) - (a1 / (10 : Int32))) fun w1 =>
  bs_let ((a0 - a0 / (10 : Int32) * (10 : Int32)) - (a1 - a1 / (10 : Int32) * (10 : Int32))) fun w2 =>
  if 0 ≤ w1 then
    (M_distance_J30 a0 a1 w2 w1)
  else
    (M_distance_J30 a0 a1 w2 (-w1))
def rm_M_distance : Room := { frames := 0, cells := 0, slots := 0, locals := 0 }
set_option maxHeartbeats 4000000 in
set_option maxRecDepth 100000 in
theorem met_M_distance (l : Launch) (a0 : Int32) (a1 : Int32) (z : Int32) (hd : M_distance a0 a1 = some z) : Met l yX1_distance (ws_ yX1_distance cX1_distance 4 (some .int)) rm_M_distance (va_Pc [.int a0, .int a1] (fun _ => True)) (vp_Si (fun r => r = z)) 0 0 (fun _ => False) := by
  refine p_met (cc := cX1_distance) (maxL := 4) (ret := (some .int)) (by decide) (Nat.le_of_ble_eq_true rfl) ?_
  intro p e U m args below meth c ls S hr hlk hl
  have S : CallFix p m c cX1_distance 4 U args lw_all RX1 := S
  have hx := S.1
  have hb := S.2.1
  have hl : lv_has ls 4 [(0, .int a0), (1, .int a1)] := hl
  have h30 : ∀ (x3 : Int32) (y0 : Int32) (ls : Array Slot), lv_has ls 4 [(0, .int a0), (1, .int a1), (3, .int x3)] → M_distance_J30 a0 a1 x3 y0 = some z → W p l e rm_M_distance U m args below meth c U.heap [] 0 0 (MQ below (vp_Si (fun r => r = z)) args U 0 0 (fun _ => False)) (F0 m 30 ls [.int y0]) := by
    intro x3 y0 ls hl hd
    unfold M_distance_J30 at hd
    refine lv_iload_n (pc := 30) hx hb dX1_distance_30 rfl (lv_at hl 2 rfl) ?_
    refine lv_if_ge (pc := 31) (tgt := 39) hx hb dX1_distance_31 (by decide) (fun c4 => ?_) (fun c4 => ?_)
    · have hd := if_t c4 hd
      refine lv_iload_n (pc := 39) hx hb dX1_distance_39 rfl (lv_at hl 2 rfl) ?_
      refine lv_iadd (pc := 40) hx hb dX1_distance_40 ?_
      exact r_iret hd S hr hlk dX1_distance_41
    · have hd := if_n c4 hd
      refine lv_iload_n (pc := 34) hx hb dX1_distance_34 rfl (lv_at hl 2 rfl) ?_
      refine lv_ineg (pc := 35) hx hb dX1_distance_35 ?_
      refine lv_goto (pc := 36) (tgt := 40) hx hb dX1_distance_36 (by decide) ?_
      refine lv_iadd (pc := 40) hx hb dX1_distance_40 ?_
      exact r_iret hd S hr hlk dX1_distance_41
  unfold M_distance at hd
  refine lv_iload_n (pc := 0) hx hb dX1_distance_0 rfl (lv_at hl 0 rfl) ?_
  refine lv_bipush (v := (10 : Int32)) (pc := 1) hx hb dX1_distance_1 (by decide) ?_
  refine lv_idiv (pc := 3) hx hb dX1_distance_3 (by decide) ?_
  refine lv_iload_n (pc := 4) hx hb dX1_distance_4 rfl (lv_at hl 1 rfl) ?_
  refine lv_bipush (v := (10 : Int32)) (pc := 5) hx hb dX1_distance_5 (by decide) ?_
  refine lv_idiv (pc := 7) hx hb dX1_distance_7 (by decide) ?_
  refine lv_isub (pc := 8) hx hb dX1_distance_8 ?_
  obtain ⟨w1, ew1, hd⟩ := bs_let_spec hd
  refine lv_topE (pc := 9) ew1 ?_
  refine lv_istore_n (pc := 9) (lv' := [(2, .int w1), (0, .int a0), (1, .int a1)]) hx hb dX1_distance_9 rfl hl (by decide) rfl (fun ls hl => ?_)
  refine lv_iload_n (pc := 10) hx hb dX1_distance_10 rfl (lv_at hl 1 rfl) ?_
  refine lv_bipush (v := (10 : Int32)) (pc := 11) hx hb dX1_distance_11 (by decide) ?_
  refine lv_irem (pc := 13) hx hb dX1_distance_13 (by decide) ?_
  refine lv_iload_n (pc := 14) hx hb dX1_distance_14 rfl (lv_at hl 2 rfl) ?_
  refine lv_bipush (v := (10 : Int32)) (pc := 15) hx hb dX1_distance_15 (by decide) ?_
  refine lv_irem (pc := 17) hx hb dX1_distance_17 (by decide) ?_
  refine lv_isub (pc := 18) hx hb dX1_distance_18 ?_
  obtain ⟨w2, ew2, hd⟩ := bs_let_spec hd
  refine lv_topE (pc := 19) ew2 ?_
  refine lv_istore_n (pc := 19) (lv' := [(3, .int w2), (2, .int w1), (0, .int a0), (1, .int a1)]) hx hb dX1_distance_19 rfl hl (by decide) rfl (fun ls hl => ?_)
  refine lv_iload_n (pc := 20) hx hb dX1_distance_20 rfl (lv_at hl 1 rfl) ?_
  refine lv_if_ge (pc := 21) (tgt := 29) hx hb dX1_distance_21 (by decide) (fun c3 => ?_) (fun c3 => ?_)
  · have hd := if_t c3 hd
    refine lv_iload_n (pc := 29) hx hb dX1_distance_29 rfl (lv_at hl 1 rfl) ?_
    exact h30 w2 w1 _ (lv_sub hl [2, 3, 0] rfl) hd
  · have hd := if_n c3 hd
    refine lv_iload_n (pc := 24) hx hb dX1_distance_24 rfl (lv_at hl 1 rfl) ?_
    refine lv_ineg (pc := 25) hx hb dX1_distance_25 ?_
    refine lv_goto (pc := 26) (tgt := 30) hx hb dX1_distance_26 (by decide) ?_
    exact h30 w2 (-w1) _ (lv_sub hl [2, 3, 0] rfl) hd
section CR_M_distance
variable {p : Program} {l : Launch} {e : Env} {R : Room} {s : State} {m : MethodId} {args : Array Value} {below : List Frame} {meth : Method} {c : Code} {H : Heap} {locs : List Loc} {cells slots : Nat} {Q : State → Prop}
variable {cc : ByteArray} {pc nL idx : Nat} {ls : Array Slot} {rest : List Value} {lv : List (Nat × Value)} {A : Nat → Prop} {H0 : Heap} {own : String}
theorem call_M_distance {a0 : Int32} {a1 : Int32} {z : Int32} (S : CallFix p m c cc nL s args lw_all own) (hl : lv_has ls nL lv) (hlk : Cond.methodLink own idx yX1_distance ∈ lw_all) (hv : M_distance a0 a1 = some z) (hR : 1 ≤ R.frames ∧ 23 ≤ R.locals) (hsum : (rest.map fun v => v.category).sum ≤ 8) (hdg : decode cc pc = .ok (.invokestatic idx, 3)) (hf : cells ≤ R.cells ∧ slots ≤ R.slots)
    (k : W p l e R s m args below meth c H locs cells slots Q (F0 m (pc + 3) ls (.int z :: rest))) : W p l e R s m args below meth c H locs cells slots Q (F0 m pc ls (.int a1 :: .int a0 :: rest)) :=
  p_calli (av := [.int a0, .int a1]) S hl (met_M_distance l a0 a1 z hv) (lw_S hlk q1093 q70 q1094) rfl rfl ⟨by decide, by decide, by show (parseMethodDescriptor yX1_distance.desc).map (fun d => d.parameters.length) = some 2; decide +kernel⟩ hR rfl hsum hdg hf k
end CR_M_distance
/-! CapCouncilModel.isWithin (IIIII)Z -/
def M_isWithin_J32 (a0 : Int32) (a1 : Int32) (a2 : Int32) (a3 : Int32) (a4 : Int32) (x5 : Int32) (x6 : Int32) (y0 : Int32) : Option Int32 :=
  if a0 = (1 : Int32) then
    (if x5 < x6 then
      (some (0 : Int32))
    else
      (if x6 < (x5 / (2 : Int32)) then
        (some (0 : Int32))
      else
        (some (1 : Int32))))
  else
  if a0 = (2 : Int32) then
    (if x5 < x6 then
      (some (0 : Int32))
    else
      (if y0 = 0 then
        (some (1 : Int32))
      else
        (some (0 : Int32))))
  else
  if a0 = (3 : Int32) then
    (if x5 < x6 then
      (some (0 : Int32))
    else
      (if (a3 - a3 / (2 : Int32) * (2 : Int32)) = 0 then
        (some (1 : Int32))
      else
        (some (0 : Int32))))
  else
  if a0 = (4 : Int32) then
    (if x5 ≤ x6 then
      (some (0 : Int32))
    else
      (if x6 < (x5 / (2 : Int32)) then
        (some (0 : Int32))
      else
        (some (1 : Int32))))
  else
  if a0 = (5 : Int32) then
    (if y0 = 0 then
      (if x5 < x6 then
        (some (0 : Int32))
      else
        (some (1 : Int32)))
    else
      (if (x5 / (2 : Int32)) ≤ x6 then
        (some (0 : Int32))
      else
        (some (1 : Int32))))
  else
    (if x5 < x6 then
      (some (0 : Int32))
    else
      (some (1 : Int32)))
def M_isWithin (a0 : Int32) (a1 : Int32) (a2 : Int32) (a3 : Int32) (a4 : Int32) : Option Int32 :=
  (M_reachOf a2 a3).bind fun v1 =>
  (M_distance a1 a4).bind fun v2 =>
  if (a1 - a1 / (10 : Int32) * (10 : Int32)) ≤ (a4 - a4 / (10 : Int32) * (10 : Int32)) then
    (M_isWithin_J32 a0 a1 a2 a3 a4 v1 v2 (0 : Int32))
  else
    (M_isWithin_J32 a0 a1 a2 a3 a4 v1 v2 (1 : Int32))
def rm_M_isWithin : Room := { frames := 1, cells := 0, slots := 0, locals := 23 }
set_option maxHeartbeats 4000000 in
set_option maxRecDepth 100000 in
theorem met_M_isWithin (l : Launch) (a0 : Int32) (a1 : Int32) (a2 : Int32) (a3 : Int32) (a4 : Int32) (z : Int32) (hd : M_isWithin a0 a1 a2 a3 a4 = some z) : Met l yX1_isWithin (ws_ yX1_isWithin cX1_isWithin 8 (some .boolean)) rm_M_isWithin (va_Pc [.int a0, .int a1, .int a2, .int a3, .int a4] (fun _ => True)) (vp_Si (fun r => r = z)) 0 0 (fun _ => False) := by
  refine p_met (cc := cX1_isWithin) (maxL := 8) (ret := (some .boolean)) (by decide) (Nat.le_of_ble_eq_true rfl) ?_
  intro p e U m args below meth c ls S hr hlk hl
  have S : CallFix p m c cX1_isWithin 8 U args lw_all RX1 := S
  have hx := S.1
  have hb := S.2.1
  have hl : lv_has ls 8 [(0, .int a0), (1, .int a1), (2, .int a2), (3, .int a3), (4, .int a4)] := hl
  have h32 : ∀ (x5 : Int32) (x6 : Int32) (y0 : Int32) (ls : Array Slot), lv_has ls 8 [(0, .int a0), (1, .int a1), (2, .int a2), (3, .int a3), (4, .int a4), (5, .int x5), (6, .int x6)] → M_isWithin_J32 a0 a1 a2 a3 a4 x5 x6 y0 = some z → W p l e rm_M_isWithin U m args below meth c U.heap [] 0 0 (MQ below (vp_Si (fun r => r = z)) args U 0 0 (fun _ => False)) (F0 m 32 ls [.int y0]) := by
    intro x5 x6 y0 ls hl hd
    unfold M_isWithin_J32 at hd
    refine lv_istore (pc := 32) (lv' := [(7, .int y0), (0, .int a0), (1, .int a1), (2, .int a2), (3, .int a3), (4, .int a4), (5, .int x5), (6, .int x6)]) hx hb dX1_isWithin_32 hl (by decide) rfl (fun ls hl => ?_)
    refine lv_iload_n (pc := 34) hx hb dX1_isWithin_34 rfl (lv_at hl 1 rfl) ?_
    by_cases c4 : a0 = (1 : Int32)
    · have hd := if_t c4 hd
      refine lv_tabE (pc := 35) (off := 33) (tgt := 68) hx hb dX1_isWithin_35 c4 (by decide) (by decide) rfl (by decide) ?_
      refine lv_iload (pc := 68) hx hb dX1_isWithin_68 (lv_at hl 7 rfl) ?_
      refine lv_iload (pc := 70) hx hb dX1_isWithin_70 (lv_at hl 6 rfl) ?_
      refine lv_icmp_gt (pc := 72) (tgt := 88) hx hb dX1_isWithin_72 (by decide) (fun c5 => ?_) (fun c5 => ?_)
      · have hd := if_t c5 hd
        refine lv_iconst (v := (0 : Int32)) (pc := 88) hx hb dX1_isWithin_88 (by decide) ?_
        exact r_zret rfl hd S hr hlk dX1_isWithin_89
      · have hd := if_n c5 hd
        refine lv_iload (pc := 75) hx hb dX1_isWithin_75 (lv_at hl 7 rfl) ?_
        refine lv_iload (pc := 77) hx hb dX1_isWithin_77 (lv_at hl 6 rfl) ?_
        refine lv_iconst (v := (2 : Int32)) (pc := 79) hx hb dX1_isWithin_79 (by decide) ?_
        refine lv_idiv (pc := 80) hx hb dX1_isWithin_80 (by decide) ?_
        refine lv_icmp_lt (pc := 81) (tgt := 88) hx hb dX1_isWithin_81 (by decide) (fun c6 => ?_) (fun c6 => ?_)
        · have hd := if_t c6 hd
          refine lv_iconst (v := (0 : Int32)) (pc := 88) hx hb dX1_isWithin_88 (by decide) ?_
          exact r_zret rfl hd S hr hlk dX1_isWithin_89
        · have hd := if_n c6 hd
          refine lv_iconst (v := (1 : Int32)) (pc := 84) hx hb dX1_isWithin_84 (by decide) ?_
          refine lv_goto (pc := 85) (tgt := 89) hx hb dX1_isWithin_85 (by decide) ?_
          exact r_zret rfl hd S hr hlk dX1_isWithin_89
    have hd := if_n c4 hd
    by_cases c7 : a0 = (2 : Int32)
    · have hd := if_t c7 hd
      refine lv_tabE (pc := 35) (off := 55) (tgt := 90) hx hb dX1_isWithin_35 c7 (by decide) (by decide) rfl (by decide) ?_
      refine lv_iload (pc := 90) hx hb dX1_isWithin_90 (lv_at hl 7 rfl) ?_
      refine lv_iload (pc := 92) hx hb dX1_isWithin_92 (lv_at hl 6 rfl) ?_
      refine lv_icmp_gt (pc := 94) (tgt := 106) hx hb dX1_isWithin_94 (by decide) (fun c8 => ?_) (fun c8 => ?_)
      · have hd := if_t c8 hd
        refine lv_iconst (v := (0 : Int32)) (pc := 106) hx hb dX1_isWithin_106 (by decide) ?_
        exact r_zret rfl hd S hr hlk dX1_isWithin_107
      · have hd := if_n c8 hd
        refine lv_iload (pc := 97) hx hb dX1_isWithin_97 (lv_at hl 0 rfl) ?_
        refine lv_if_ne (pc := 99) (tgt := 106) hx hb dX1_isWithin_99 (by decide) (fun c9 => ?_) (fun c9 => ?_)
        · have hd := if_n c9 hd
          refine lv_iconst (v := (0 : Int32)) (pc := 106) hx hb dX1_isWithin_106 (by decide) ?_
          exact r_zret rfl hd S hr hlk dX1_isWithin_107
        · have hd := if_t c9 hd
          refine lv_iconst (v := (1 : Int32)) (pc := 102) hx hb dX1_isWithin_102 (by decide) ?_
          refine lv_goto (pc := 103) (tgt := 107) hx hb dX1_isWithin_103 (by decide) ?_
          exact r_zret rfl hd S hr hlk dX1_isWithin_107
    have hd := if_n c7 hd
    by_cases c10 : a0 = (3 : Int32)
    · have hd := if_t c10 hd
      refine lv_tabE (pc := 35) (off := 73) (tgt := 108) hx hb dX1_isWithin_35 c10 (by decide) (by decide) rfl (by decide) ?_
      refine lv_iload (pc := 108) hx hb dX1_isWithin_108 (lv_at hl 7 rfl) ?_
      refine lv_iload (pc := 110) hx hb dX1_isWithin_110 (lv_at hl 6 rfl) ?_
      refine lv_icmp_gt (pc := 112) (tgt := 125) hx hb dX1_isWithin_112 (by decide) (fun c11 => ?_) (fun c11 => ?_)
      · have hd := if_t c11 hd
        refine lv_iconst (v := (0 : Int32)) (pc := 125) hx hb dX1_isWithin_125 (by decide) ?_
        exact r_zret rfl hd S hr hlk dX1_isWithin_126
      · have hd := if_n c11 hd
        refine lv_iload_n (pc := 115) hx hb dX1_isWithin_115 rfl (lv_at hl 4 rfl) ?_
        refine lv_iconst (v := (2 : Int32)) (pc := 116) hx hb dX1_isWithin_116 (by decide) ?_
        refine lv_irem (pc := 117) hx hb dX1_isWithin_117 (by decide) ?_
        refine lv_if_ne (pc := 118) (tgt := 125) hx hb dX1_isWithin_118 (by decide) (fun c12 => ?_) (fun c12 => ?_)
        · have hd := if_n c12 hd
          refine lv_iconst (v := (0 : Int32)) (pc := 125) hx hb dX1_isWithin_125 (by decide) ?_
          exact r_zret rfl hd S hr hlk dX1_isWithin_126
        · have hd := if_t c12 hd
          refine lv_iconst (v := (1 : Int32)) (pc := 121) hx hb dX1_isWithin_121 (by decide) ?_
          refine lv_goto (pc := 122) (tgt := 126) hx hb dX1_isWithin_122 (by decide) ?_
          exact r_zret rfl hd S hr hlk dX1_isWithin_126
    have hd := if_n c10 hd
    by_cases c13 : a0 = (4 : Int32)
    · have hd := if_t c13 hd
      refine lv_tabE (pc := 35) (off := 92) (tgt := 127) hx hb dX1_isWithin_35 c13 (by decide) (by decide) rfl (by decide) ?_
      refine lv_iload (pc := 127) hx hb dX1_isWithin_127 (lv_at hl 7 rfl) ?_
      refine lv_iload (pc := 129) hx hb dX1_isWithin_129 (lv_at hl 6 rfl) ?_
      refine lv_icmp_ge (pc := 131) (tgt := 147) hx hb dX1_isWithin_131 (by decide) (fun c14 => ?_) (fun c14 => ?_)
      · have hd := if_t c14 hd
        refine lv_iconst (v := (0 : Int32)) (pc := 147) hx hb dX1_isWithin_147 (by decide) ?_
        exact r_zret rfl hd S hr hlk dX1_isWithin_148
      · have hd := if_n c14 hd
        refine lv_iload (pc := 134) hx hb dX1_isWithin_134 (lv_at hl 7 rfl) ?_
        refine lv_iload (pc := 136) hx hb dX1_isWithin_136 (lv_at hl 6 rfl) ?_
        refine lv_iconst (v := (2 : Int32)) (pc := 138) hx hb dX1_isWithin_138 (by decide) ?_
        refine lv_idiv (pc := 139) hx hb dX1_isWithin_139 (by decide) ?_
        refine lv_icmp_lt (pc := 140) (tgt := 147) hx hb dX1_isWithin_140 (by decide) (fun c15 => ?_) (fun c15 => ?_)
        · have hd := if_t c15 hd
          refine lv_iconst (v := (0 : Int32)) (pc := 147) hx hb dX1_isWithin_147 (by decide) ?_
          exact r_zret rfl hd S hr hlk dX1_isWithin_148
        · have hd := if_n c15 hd
          refine lv_iconst (v := (1 : Int32)) (pc := 143) hx hb dX1_isWithin_143 (by decide) ?_
          refine lv_goto (pc := 144) (tgt := 148) hx hb dX1_isWithin_144 (by decide) ?_
          exact r_zret rfl hd S hr hlk dX1_isWithin_148
    have hd := if_n c13 hd
    by_cases c16 : a0 = (5 : Int32)
    · have hd := if_t c16 hd
      refine lv_tabE (pc := 35) (off := 114) (tgt := 149) hx hb dX1_isWithin_35 c16 (by decide) (by decide) rfl (by decide) ?_
      refine lv_iload (pc := 149) hx hb dX1_isWithin_149 (lv_at hl 0 rfl) ?_
      refine lv_if_eq (pc := 151) (tgt := 171) hx hb dX1_isWithin_151 (by decide) (fun c17 => ?_) (fun c17 => ?_)
      · have hd := if_t c17 hd
        refine lv_iload (pc := 171) hx hb dX1_isWithin_171 (lv_at hl 7 rfl) ?_
        refine lv_iload (pc := 173) hx hb dX1_isWithin_173 (lv_at hl 6 rfl) ?_
        refine lv_icmp_gt (pc := 175) (tgt := 182) hx hb dX1_isWithin_175 (by decide) (fun c18 => ?_) (fun c18 => ?_)
        · have hd := if_t c18 hd
          refine lv_iconst (v := (0 : Int32)) (pc := 182) hx hb dX1_isWithin_182 (by decide) ?_
          exact r_zret rfl hd S hr hlk dX1_isWithin_183
        · have hd := if_n c18 hd
          refine lv_iconst (v := (1 : Int32)) (pc := 178) hx hb dX1_isWithin_178 (by decide) ?_
          refine lv_goto (pc := 179) (tgt := 183) hx hb dX1_isWithin_179 (by decide) ?_
          exact r_zret rfl hd S hr hlk dX1_isWithin_183
      · have hd := if_n c17 hd
        refine lv_iload (pc := 154) hx hb dX1_isWithin_154 (lv_at hl 7 rfl) ?_
        refine lv_iload (pc := 156) hx hb dX1_isWithin_156 (lv_at hl 6 rfl) ?_
        refine lv_iconst (v := (2 : Int32)) (pc := 158) hx hb dX1_isWithin_158 (by decide) ?_
        refine lv_idiv (pc := 159) hx hb dX1_isWithin_159 (by decide) ?_
        refine lv_icmp_ge (pc := 160) (tgt := 167) hx hb dX1_isWithin_160 (by decide) (fun c19 => ?_) (fun c19 => ?_)
        · have hd := if_t c19 hd
          refine lv_iconst (v := (0 : Int32)) (pc := 167) hx hb dX1_isWithin_167 (by decide) ?_
          refine lv_goto (pc := 168) (tgt := 183) hx hb dX1_isWithin_168 (by decide) ?_
          exact r_zret rfl hd S hr hlk dX1_isWithin_183
        · have hd := if_n c19 hd
          refine lv_iconst (v := (1 : Int32)) (pc := 163) hx hb dX1_isWithin_163 (by decide) ?_
          refine lv_goto (pc := 164) (tgt := 183) hx hb dX1_isWithin_164 (by decide) ?_
          exact r_zret rfl hd S hr hlk dX1_isWithin_183
    have hd := if_n c16 hd
    refine lv_tableOut (pc := 35) (tgt := 184) hx hb dX1_isWithin_35 (by have zc4 := lv_neT c4 (a := 1) (by decide); have zc7 := lv_neT c7 (a := 2) (by decide); have zc10 := lv_neT c10 (a := 3) (by decide); have zc13 := lv_neT c13 (a := 4) (by decide); have zc16 := lv_neT c16 (a := 5) (by decide); omega) (by decide) ?_
    refine lv_iload (pc := 184) hx hb dX1_isWithin_184 (lv_at hl 7 rfl) ?_
    refine lv_iload (pc := 186) hx hb dX1_isWithin_186 (lv_at hl 6 rfl) ?_
    refine lv_icmp_gt (pc := 188) (tgt := 195) hx hb dX1_isWithin_188 (by decide) (fun c20 => ?_) (fun c20 => ?_)
    · have hd := if_t c20 hd
      refine lv_iconst (v := (0 : Int32)) (pc := 195) hx hb dX1_isWithin_195 (by decide) ?_
      exact r_zret rfl hd S hr hlk dX1_isWithin_196
    · have hd := if_n c20 hd
      refine lv_iconst (v := (1 : Int32)) (pc := 191) hx hb dX1_isWithin_191 (by decide) ?_
      refine lv_goto (pc := 192) (tgt := 196) hx hb dX1_isWithin_192 (by decide) ?_
      exact r_zret rfl hd S hr hlk dX1_isWithin_196
  unfold M_isWithin at hd
  refine lv_iload_n (pc := 0) hx hb dX1_isWithin_0 rfl (lv_at hl 2 rfl) ?_
  refine lv_iload_n (pc := 1) hx hb dX1_isWithin_1 rfl (lv_at hl 3 rfl) ?_
  obtain ⟨v1, hv1, hd⟩ := bs_bd hd
  refine call_M_reachOf (pc := 2) S hl q1078 hv1 ⟨Nat.le_of_ble_eq_true rfl, Nat.le_of_ble_eq_true rfl⟩ (Nat.le_of_ble_eq_true rfl) dX1_isWithin_2 ⟨Nat.zero_le _, Nat.zero_le _⟩ ?_
  refine lv_istore (pc := 5) (lv' := [(5, .int v1), (0, .int a0), (1, .int a1), (2, .int a2), (3, .int a3), (4, .int a4)]) hx hb dX1_isWithin_5 hl (by decide) rfl (fun ls hl => ?_)
  refine lv_iload_n (pc := 7) hx hb dX1_isWithin_7 rfl (lv_at hl 2 rfl) ?_
  refine lv_iload (pc := 8) hx hb dX1_isWithin_8 (lv_at hl 5 rfl) ?_
  obtain ⟨v2, hv2, hd⟩ := bs_bd hd
  refine call_M_distance (pc := 10) S hl q1092 hv2 ⟨Nat.le_of_ble_eq_true rfl, Nat.le_of_ble_eq_true rfl⟩ (Nat.le_of_ble_eq_true rfl) dX1_isWithin_10 ⟨Nat.zero_le _, Nat.zero_le _⟩ ?_
  refine lv_istore (pc := 13) (lv' := [(6, .int v2), (5, .int v1), (0, .int a0), (1, .int a1), (2, .int a2), (3, .int a3), (4, .int a4)]) hx hb dX1_isWithin_13 hl (by decide) rfl (fun ls hl => ?_)
  refine lv_iload (pc := 15) hx hb dX1_isWithin_15 (lv_at hl 6 rfl) ?_
  refine lv_bipush (v := (10 : Int32)) (pc := 17) hx hb dX1_isWithin_17 (by decide) ?_
  refine lv_irem (pc := 19) hx hb dX1_isWithin_19 (by decide) ?_
  refine lv_iload_n (pc := 20) hx hb dX1_isWithin_20 rfl (lv_at hl 3 rfl) ?_
  refine lv_bipush (v := (10 : Int32)) (pc := 21) hx hb dX1_isWithin_21 (by decide) ?_
  refine lv_irem (pc := 23) hx hb dX1_isWithin_23 (by decide) ?_
  refine lv_icmp_ge (pc := 24) (tgt := 31) hx hb dX1_isWithin_24 (by decide) (fun c3 => ?_) (fun c3 => ?_)
  · have hd := if_t c3 hd
    refine lv_iconst (v := (0 : Int32)) (pc := 31) hx hb dX1_isWithin_31 (by decide) ?_
    exact h32 v1 v2 (0 : Int32) _ (lv_sub hl [2, 3, 4, 5, 6, 1, 0] rfl) hd
  · have hd := if_n c3 hd
    refine lv_iconst (v := (1 : Int32)) (pc := 27) hx hb dX1_isWithin_27 (by decide) ?_
    refine lv_goto (pc := 28) (tgt := 32) hx hb dX1_isWithin_28 (by decide) ?_
    exact h32 v1 v2 (1 : Int32) _ (lv_sub hl [2, 3, 4, 5, 6, 1, 0] rfl) hd
section CR_M_isWithin
variable {p : Program} {l : Launch} {e : Env} {R : Room} {s : State} {m : MethodId} {args : Array Value} {below : List Frame} {meth : Method} {c : Code} {H : Heap} {locs : List Loc} {cells slots : Nat} {Q : State → Prop}
variable {cc : ByteArray} {pc nL idx : Nat} {ls : Array Slot} {rest : List Value} {lv : List (Nat × Value)} {A : Nat → Prop} {H0 : Heap} {own : String}
theorem call_M_isWithin {a0 : Int32} {a1 : Int32} {a2 : Int32} {a3 : Int32} {a4 : Int32} {z : Int32} (S : CallFix p m c cc nL s args lw_all own) (hl : lv_has ls nL lv) (hlk : Cond.methodLink own idx yX1_isWithin ∈ lw_all) (hv : M_isWithin a0 a1 a2 a3 a4 = some z) (hR : 2 ≤ R.frames ∧ 50 ≤ R.locals) (hsum : (rest.map fun v => v.category).sum ≤ 8) (hdg : decode cc pc = .ok (.invokestatic idx, 3)) (hf : cells ≤ R.cells ∧ slots ≤ R.slots)
    (k : W p l e R s m args below meth c H locs cells slots Q (F0 m (pc + 3) ls (.int z :: rest))) : W p l e R s m args below meth c H locs cells slots Q (F0 m pc ls (.int a4 :: .int a3 :: .int a2 :: .int a1 :: .int a0 :: rest)) :=
  p_calli (av := [.int a0, .int a1, .int a2, .int a3, .int a4]) S hl (met_M_isWithin l a0 a1 a2 a3 a4 z hv) (lw_S hlk q1090 q70 q1091) rfl rfl ⟨by decide, by decide, by show (parseMethodDescriptor yX1_isWithin.desc).map (fun d => d.parameters.length) = some 5; decide +kernel⟩ hR rfl hsum hdg hf k
end CR_M_isWithin
