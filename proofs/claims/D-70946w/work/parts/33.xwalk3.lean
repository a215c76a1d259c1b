set_option maxRecDepth 100000
/-! CapCouncil.digest ()J -/
def X_digest_L9 (k30 : XS → Option (XS × Int64)) : Nat → XS → Int32 → Option (XS × Int64)
  | 0, _, _ => none
  | n + 1, st, x1 =>
    if (10 : Int32) < x1 then
      (k30 st)
    else
      ((X_countOf st x1).bind fun v3 =>
      (X_mix st v3).bind fun q4 =>
      bs_let (x1 + (1 : Int32)) fun w5 =>
      X_digest_L9 k30 n q4 w5)
def X_digest_L148 (k115 : XS → Int32 → Int32 → Option (XS × Int64)) : Nat → XS → Int32 → Int32 → Nat → Int32 → Int32 → Option (XS × Int64)
  | 0, _, _, _, _, _, _ => none
  | n + 1, st, x2, x3, j4, x5, x6 =>
    if x5 ≤ x6 then
      (bs_let (x3 + (1 : Int32)) fun w23 =>
      k115 st x2 w23)
    else
      ((xrl st (6 + j4) x6).bind fun v24 =>
      (X_mix st v24).bind fun q25 =>
      bs_let (x6 + (1 : Int32)) fun w26 =>
      X_digest_L148 k115 n q25 x2 x3 j4 x5 w26)
def X_digest_J137 (k115 : XS → Int32 → Int32 → Option (XS × Int64)) (st : XS) (x2 : Int32) (x3 : Int32) (j4 : Nat) (y0 : Int32) : Option (XS × Int64) :=
  (X_mix st y0).bind fun q16 =>
  X_digest_L148 (k115) bs_fu q16 x2 x3 j4 y0 (0 : Int32)
def X_digest_L115 : Nat → XS → Int32 → Int32 → Option (XS × Int64)
  | 0, _, _, _ => none
  | n + 1, st, x2, x3 =>
    if x2 ≤ x3 then
      (some (st, (xl st 2)))
    else
      ((bs_ix 4 x3).bind fun v12 =>
      if (xr st (6 + v12)).isSome = true then
        ((xrn st (6 + v12)).bind fun v14 =>
        X_digest_J137 (X_digest_L115 n) st x2 x3 v12 v14)
      else
        (X_digest_J137 (X_digest_L115 n) st x2 x3 v12 (-1 : Int32)))
def X_digest_L77 (k44 : XS → Int32 → Int32 → Option (XS × Int64)) : Nat → XS → Int32 → Int32 → Nat → Int32 → Int32 → Option (XS × Int64)
  | 0, _, _, _, _, _, _ => none
  | n + 1, st, x2, x3, j4, x5, x6 =>
    if x5 ≤ x6 then
      (bs_let (x3 + (1 : Int32)) fun w18 =>
      k44 st x2 w18)
    else
      ((xrl st j4 x6).bind fun v19 =>
      (X_mix st v19).bind fun q20 =>
      bs_let (x6 + (1 : Int32)) fun w21 =>
      X_digest_L77 k44 n q20 x2 x3 j4 x5 w21)
def X_digest_J66 (k44 : XS → Int32 → Int32 → Option (XS × Int64)) (st : XS) (x2 : Int32) (x3 : Int32) (j4 : Nat) (y0 : Int32) : Option (XS × Int64) :=
  (X_mix st y0).bind fun q15 =>
  X_digest_L77 (k44) bs_fu q15 x2 x3 j4 y0 (0 : Int32)
def X_digest_L44 (k115 : XS → Int32 → Int32 → Option (XS × Int64)) : Nat → XS → Int32 → Int32 → Option (XS × Int64)
  | 0, _, _, _ => none
  | n + 1, st, x2, x3 =>
    if x2 ≤ x3 then
      (k115 st (4 : Int32) (0 : Int32))
    else
      ((bs_ix 6 x3).bind fun v8 =>
      if (xr st v8).isSome = true then
        ((xrn st v8).bind fun v10 =>
        X_digest_J66 (X_digest_L44 k115 n) st x2 x3 v8 v10)
      else
        (X_digest_J66 (X_digest_L44 k115 n) st x2 x3 v8 (-1 : Int32)))
def X_digest_J30 (st : XS) : Option (XS × Int64) :=
  (X_mixParish st).bind fun q6 =>
  X_digest_L44 (X_digest_L115 bs_fu) bs_fu q6 (6 : Int32) (0 : Int32)
def X_digest (st : XS) : Option (XS × Int64) :=
  bs_let (sxl st 2 (17 : Int64)) fun s1 =>
  X_digest_L9 (X_digest_J30) bs_fu s1 (0 : Int32)
def rm_X_digest : Room := { frames := 9, cells := 0, slots := 0, locals := 236 }
set_option maxHeartbeats 4000000 in
set_option maxRecDepth 100000 in
theorem met_X_digest (l : Launch) (D : va_G) (ct : Nat → ClassId) (a : XA) (ρ : Option Nat) (sz : Nat) (st : XS) (z : (XS × Int64)) (hd : X_digest st = some z) : Met l yX0_digest (ws_ yX0_digest cX0_digest 7 (some .long)) rm_X_digest (GPre gEX D ct (xAs a) (WX ct a ρ st) sz [.ref (ah a 0)]) (GQl D (xAs a) (xAs a) (WX ct a ρ z.1) sz z.2) 0 0 (gA (xAs a) sz) := by
  refine g_met (cc := cX0_digest) (maxL := 7) (ret := (some .long)) (by decide) (Nat.le_of_ble_eq_true rfl) ?_
  intro p e U m args below meth c ls S hr hlk hK hH hE hsz hl
  have S : CallFix p m c cX0_digest 7 U args lw_all RX0 := S
  have hx := S.1
  have hb := S.2.1
  have hl : lv_has ls 7 [(0, .ref (ah a 0))] := hl
  have h115 : ∀ (n115 : Nat) (st : XS) (x2 : Int32) (x3 : Int32) (H : Heap) (locs : List Loc) (ls : Array Slot), GH D (gA (xAs a) sz) (xAs a) U.heap (WX ct a ρ st) H locs → lv_has ls 7 [(0, .ref (ah a 0)), (1, .ref (ah a 3)), (2, .int x2), (3, .int x3)] → X_digest_L115 n115 st x2 x3 = some z → W p l e rm_X_digest U m args below meth c H locs 0 0 (MQ below (GQl D (xAs a) (xAs a) (WX ct a ρ z.1) sz z.2) args U 0 0 (gA (xAs a) sz)) (F0 m 115 ls []) := by
    intro n115
    induction n115 with
    | zero =>
      intro st x2 x3 H locs ls hH hl hd
      rw [X_digest_L115] at hd
      cases hd
    | succ n115 ih115 =>
      have h148 : ∀ (n148 : Nat) (st : XS) (x2 : Int32) (x3 : Int32) (j4 : Nat) (hj4 : j4 < 4) (x5 : Int32) (x6 : Int32) (H : Heap) (locs : List Loc) (ls : Array Slot), GH D (gA (xAs a) sz) (xAs a) U.heap (WX ct a ρ st) H locs → lv_has ls 7 [(0, .ref (ah a 0)), (1, .ref (ah a 3)), (2, .int x2), (3, .int x3), (4, va_rf (ar a (6 + j4))), (5, .int x5), (6, .int x6)] → X_digest_L148 (X_digest_L115 n115) n148 st x2 x3 j4 x5 x6 = some z → W p l e rm_X_digest U m args below meth c H locs 0 0 (MQ below (GQl D (xAs a) (xAs a) (WX ct a ρ z.1) sz z.2) args U 0 0 (gA (xAs a) sz)) (F0 m 148 ls []) := by
        intro n148
        induction n148 with
        | zero =>
          intro st x2 x3 j4 hj4 x5 x6 H locs ls hH hl hd
          rw [X_digest_L148] at hd
          cases hd
        | succ n148 ih148 =>
          intro st x2 x3 j4 hj4 x5 x6 H locs ls hH hl hd
          rw [X_digest_L148] at hd
          refine lv_iload (pc := 148) hx hb dX0_digest_148 (lv_at hl 6 rfl) ?_
          refine lv_iload (pc := 150) hx hb dX0_digest_150 (lv_at hl 5 rfl) ?_
          refine lv_icmp_ge (pc := 152) (tgt := 170) hx hb dX0_digest_152 (by decide) (fun c22 => ?_) (fun c22 => ?_)
          · have hd := if_t c22 hd
            obtain ⟨w23, ew23, hd⟩ := bs_let_spec hd
            refine lv_iinc (pc := 170) (v := w23) (lv' := [(3, .int w23), (0, .ref (ah a 0)), (1, .ref (ah a 3)), (2, .int x2), (4, va_rf (ar a (6 + j4))), (5, .int x5), (6, .int x6)]) hx hb dX0_digest_170 hl (k := 3) rfl (by rw [ew23]; rfl) (by decide) rfl (fun ls hl => ?_)
            refine lv_goto (pc := 173) (tgt := 115) hx hb dX0_digest_173 (by decide) ?_
            exact ih115 st x2 w23 _ _ _ hH (lv_sub hl [1, 2, 3, 0] rfl) hd
          · have hd := if_n c22 hd
            refine lv_aload_n (pc := 155) hx hb dX0_digest_155 rfl (lv_at hl 0 rfl) ?_
            refine lv_aloadO (pc := 156) hx hb dX0_digest_156 (lv_at hl 4 rfl) ?_
            refine lv_iload (pc := 158) hx hb dX0_digest_158 (lv_at hl 6 rfl) ?_
            obtain ⟨v24, hv24, hd⟩ := bs_bd hd
            refine xr_bld (pc := 160) S hK hH hj4 hv24 dX0_digest_160 ?_
            obtain ⟨q25, hq25, hd⟩ := bs_bd hd
            refine call_X_mix (pc := 161) S hl hE hK hH q898 hq25 ⟨Nat.le_of_ble_eq_true rfl, Nat.le_of_ble_eq_true rfl⟩ (Nat.le_of_ble_eq_true rfl) dX0_digest_161 ⟨Nat.zero_le _, Nat.zero_le _⟩ (fun H locs hH => ?_)
            obtain ⟨w26, ew26, hd⟩ := bs_let_spec hd
            refine lv_iinc (pc := 164) (v := w26) (lv' := [(6, .int w26), (0, .ref (ah a 0)), (1, .ref (ah a 3)), (2, .int x2), (3, .int x3), (4, va_rf (ar a (6 + j4))), (5, .int x5)]) hx hb dX0_digest_164 hl (k := 6) rfl (by rw [ew26]; rfl) (by decide) rfl (fun ls hl => ?_)
            refine lv_goto (pc := 167) (tgt := 148) hx hb dX0_digest_167 (by decide) ?_
            exact ih148 q25 x2 x3 j4 hj4 x5 w26 _ _ _ hH (lv_sub hl [1, 2, 3, 4, 5, 6, 0] rfl) hd
      have h137 : ∀ (st : XS) (x2 : Int32) (x3 : Int32) (j4 : Nat) (hj4 : j4 < 4) (y0 : Int32) (H : Heap) (locs : List Loc) (ls : Array Slot), GH D (gA (xAs a) sz) (xAs a) U.heap (WX ct a ρ st) H locs → lv_has ls 7 [(0, .ref (ah a 0)), (1, .ref (ah a 3)), (2, .int x2), (3, .int x3), (4, va_rf (ar a (6 + j4)))] → X_digest_J137 (X_digest_L115 n115) st x2 x3 j4 y0 = some z → W p l e rm_X_digest U m args below meth c H locs 0 0 (MQ below (GQl D (xAs a) (xAs a) (WX ct a ρ z.1) sz z.2) args U 0 0 (gA (xAs a) sz)) (F0 m 137 ls [.int y0]) := by
        intro st x2 x3 j4 hj4 y0 H locs ls hH hl hd
        unfold X_digest_J137 at hd
        refine lv_istore (pc := 137) (i := 5) (lv' := [(5, .int y0), (0, .ref (ah a 0)), (1, .ref (ah a 3)), (2, .int x2), (3, .int x3), (4, va_rf (ar a (6 + j4)))]) hx hb dX0_digest_137 hl (by decide) (by simp [va_rf_cat, vc_int, vc_ref, vc_long]) (fun ls hl => ?_)
        refine lv_aload_n (pc := 139) hx hb dX0_digest_139 rfl (lv_at hl 1 rfl) ?_
        refine lv_iload (pc := 140) hx hb dX0_digest_140 (lv_at hl 0 rfl) ?_
        obtain ⟨q16, hq16, hd⟩ := bs_bd hd
        refine call_X_mix (pc := 142) S hl hE hK hH q898 hq16 ⟨Nat.le_of_ble_eq_true rfl, Nat.le_of_ble_eq_true rfl⟩ (Nat.le_of_ble_eq_true rfl) dX0_digest_142 ⟨Nat.zero_le _, Nat.zero_le _⟩ (fun H locs hH => ?_)
        refine lv_iconst (v := (0 : Int32)) (pc := 145) hx hb dX0_digest_145 (by decide) ?_
        refine lv_istore (pc := 146) (lv' := [(6, .int (0 : Int32)), (5, .int y0), (0, .ref (ah a 0)), (1, .ref (ah a 3)), (2, .int x2), (3, .int x3), (4, va_rf (ar a (6 + j4)))]) hx hb dX0_digest_146 hl (by decide) rfl (fun ls hl => ?_)
        exact h148 bs_fu q16 x2 x3 j4 hj4 y0 (0 : Int32) _ _ _ hH (lv_sub hl [2, 3, 4, 5, 6, 1, 0] rfl) hd
      intro st x2 x3 H locs ls hH hl hd
      rw [X_digest_L115] at hd
      refine lv_iload_n (pc := 115) hx hb dX0_digest_115 rfl (lv_at hl 3 rfl) ?_
      refine lv_iload_n (pc := 116) hx hb dX0_digest_116 rfl (lv_at hl 2 rfl) ?_
      refine lv_icmp_ge (pc := 117) (tgt := 176) hx hb dX0_digest_117 (by decide) (fun c11 => ?_) (fun c11 => ?_)
      · have hd := if_t c11 hd
        refine lv_aload_n (pc := 176) hx hb dX0_digest_176 rfl (lv_at hl 0 rfl) ?_
        refine xg_h0 (pc := 177) S hK hH dX0_digest_177 ?_
        exact g_lret (WX ct a ρ) hd S hr hlk hH dX0_digest_180
      · have hd := if_n c11 hd
        refine lv_aload_n (pc := 120) hx hb dX0_digest_120 rfl (lv_at hl 1 rfl) ?_
        refine lv_iload_n (pc := 121) hx hb dX0_digest_121 rfl (lv_at hl 3 rfl) ?_
        obtain ⟨v12, hv12, hd⟩ := bs_bd hd
        refine xq_texts (pc := 122) S hK hH hv12 dX0_digest_122 ?_
        refine lv_astoreO (pc := 123) (lv' := [(4, va_rf (ar a (6 + v12))), (0, .ref (ah a 0)), (1, .ref (ah a 3)), (2, .int x2), (3, .int x3)]) hx hb dX0_digest_123 hl (by decide) rfl (fun ls hl => ?_)
        refine lv_aloadO (pc := 125) hx hb dX0_digest_125 (lv_at hl 0 rfl) ?_
        refine lv_ifnonnullO (pc := 127) (tgt := 134) hx hb dX0_digest_127 (by decide) (fun c13 => ?_) (fun c13 => ?_)
        · have hd := if_t ((xo_r hH (Nat.add_lt_add_left (bs_ix_lt hv12) 6)).symm.trans c13) hd
          refine lv_aloadO (pc := 134) hx hb dX0_digest_134 (lv_at hl 0 rfl) ?_
          obtain ⟨v14, hv14, hd⟩ := bs_bd hd
          refine xr_len (pc := 136) (j := (6 + v12)) S hK hH (Nat.add_lt_add_left (bs_ix_lt hv12) 6) hv14 dX0_digest_136 ?_
          exact h137 st x2 x3 v12 (bs_ix_lt hv12) v14 _ _ _ hH (lv_sub hl [1, 2, 3, 4, 0] rfl) hd
        · have hd := if_n (fun h9 => c13 ((xo_r hH (Nat.add_lt_add_left (bs_ix_lt hv12) 6)).trans h9)) hd
          refine lv_iconst (v := (-1 : Int32)) (pc := 130) hx hb dX0_digest_130 (by decide) ?_
          refine lv_goto (pc := 131) (tgt := 137) hx hb dX0_digest_131 (by decide) ?_
          exact h137 st x2 x3 v12 (bs_ix_lt hv12) (-1 : Int32) _ _ _ hH (lv_sub hl [1, 2, 3, 4, 0] rfl) hd
  have h44 : ∀ (n44 : Nat) (st : XS) (x2 : Int32) (x3 : Int32) (H : Heap) (locs : List Loc) (ls : Array Slot), GH D (gA (xAs a) sz) (xAs a) U.heap (WX ct a ρ st) H locs → lv_has ls 7 [(0, .ref (ah a 0)), (1, .ref (ah a 2)), (2, .int x2), (3, .int x3)] → X_digest_L44 (X_digest_L115 bs_fu) n44 st x2 x3 = some z → W p l e rm_X_digest U m args below meth c H locs 0 0 (MQ below (GQl D (xAs a) (xAs a) (WX ct a ρ z.1) sz z.2) args U 0 0 (gA (xAs a) sz)) (F0 m 44 ls []) := by
    intro n44
    induction n44 with
    | zero =>
      intro st x2 x3 H locs ls hH hl hd
      rw [X_digest_L44] at hd
      cases hd
    | succ n44 ih44 =>
      have h77 : ∀ (n77 : Nat) (st : XS) (x2 : Int32) (x3 : Int32) (j4 : Nat) (hj4 : j4 < 6) (x5 : Int32) (x6 : Int32) (H : Heap) (locs : List Loc) (ls : Array Slot), GH D (gA (xAs a) sz) (xAs a) U.heap (WX ct a ρ st) H locs → lv_has ls 7 [(0, .ref (ah a 0)), (1, .ref (ah a 2)), (2, .int x2), (3, .int x3), (4, va_rf (ar a j4)), (5, .int x5), (6, .int x6)] → X_digest_L77 (X_digest_L44 (X_digest_L115 bs_fu) n44) n77 st x2 x3 j4 x5 x6 = some z → W p l e rm_X_digest U m args below meth c H locs 0 0 (MQ below (GQl D (xAs a) (xAs a) (WX ct a ρ z.1) sz z.2) args U 0 0 (gA (xAs a) sz)) (F0 m 77 ls []) := by
        intro n77
        induction n77 with
        | zero =>
          intro st x2 x3 j4 hj4 x5 x6 H locs ls hH hl hd
          rw [X_digest_L77] at hd
          cases hd
        | succ n77 ih77 =>
          intro st x2 x3 j4 hj4 x5 x6 H locs ls hH hl hd
          rw [X_digest_L77] at hd
          refine lv_iload (pc := 77) hx hb dX0_digest_77 (lv_at hl 6 rfl) ?_
          refine lv_iload (pc := 79) hx hb dX0_digest_79 (lv_at hl 5 rfl) ?_
          refine lv_icmp_ge (pc := 81) (tgt := 99) hx hb dX0_digest_81 (by decide) (fun c17 => ?_) (fun c17 => ?_)
          · have hd := if_t c17 hd
            obtain ⟨w18, ew18, hd⟩ := bs_let_spec hd
            refine lv_iinc (pc := 99) (v := w18) (lv' := [(3, .int w18), (0, .ref (ah a 0)), (1, .ref (ah a 2)), (2, .int x2), (4, va_rf (ar a j4)), (5, .int x5), (6, .int x6)]) hx hb dX0_digest_99 hl (k := 3) rfl (by rw [ew18]; rfl) (by decide) rfl (fun ls hl => ?_)
            refine lv_goto (pc := 102) (tgt := 44) hx hb dX0_digest_102 (by decide) ?_
            exact ih44 st x2 w18 _ _ _ hH (lv_sub hl [1, 2, 3, 0] rfl) hd
          · have hd := if_n c17 hd
            refine lv_aload_n (pc := 84) hx hb dX0_digest_84 rfl (lv_at hl 0 rfl) ?_
            refine lv_aloadO (pc := 85) hx hb dX0_digest_85 (lv_at hl 4 rfl) ?_
            refine lv_iload (pc := 87) hx hb dX0_digest_87 (lv_at hl 6 rfl) ?_
            obtain ⟨v19, hv19, hd⟩ := bs_bd hd
            refine xr_ild (pc := 89) S hK hH hj4 hv19 dX0_digest_89 ?_
            obtain ⟨q20, hq20, hd⟩ := bs_bd hd
            refine call_X_mix (pc := 90) S hl hE hK hH q898 hq20 ⟨Nat.le_of_ble_eq_true rfl, Nat.le_of_ble_eq_true rfl⟩ (Nat.le_of_ble_eq_true rfl) dX0_digest_90 ⟨Nat.zero_le _, Nat.zero_le _⟩ (fun H locs hH => ?_)
            obtain ⟨w21, ew21, hd⟩ := bs_let_spec hd
            refine lv_iinc (pc := 93) (v := w21) (lv' := [(6, .int w21), (0, .ref (ah a 0)), (1, .ref (ah a 2)), (2, .int x2), (3, .int x3), (4, va_rf (ar a j4)), (5, .int x5)]) hx hb dX0_digest_93 hl (k := 6) rfl (by rw [ew21]; rfl) (by decide) rfl (fun ls hl => ?_)
            refine lv_goto (pc := 96) (tgt := 77) hx hb dX0_digest_96 (by decide) ?_
            exact ih77 q20 x2 x3 j4 hj4 x5 w21 _ _ _ hH (lv_sub hl [1, 2, 3, 4, 5, 6, 0] rfl) hd
      have h66 : ∀ (st : XS) (x2 : Int32) (x3 : Int32) (j4 : Nat) (hj4 : j4 < 6) (y0 : Int32) (H : Heap) (locs : List Loc) (ls : Array Slot), GH D (gA (xAs a) sz) (xAs a) U.heap (WX ct a ρ st) H locs → lv_has ls 7 [(0, .ref (ah a 0)), (1, .ref (ah a 2)), (2, .int x2), (3, .int x3), (4, va_rf (ar a j4))] → X_digest_J66 (X_digest_L44 (X_digest_L115 bs_fu) n44) st x2 x3 j4 y0 = some z → W p l e rm_X_digest U m args below meth c H locs 0 0 (MQ below (GQl D (xAs a) (xAs a) (WX ct a ρ z.1) sz z.2) args U 0 0 (gA (xAs a) sz)) (F0 m 66 ls [.int y0]) := by
        intro st x2 x3 j4 hj4 y0 H locs ls hH hl hd
        unfold X_digest_J66 at hd
        refine lv_istore (pc := 66) (i := 5) (lv' := [(5, .int y0), (0, .ref (ah a 0)), (1, .ref (ah a 2)), (2, .int x2), (3, .int x3), (4, va_rf (ar a j4))]) hx hb dX0_digest_66 hl (by decide) (by simp [va_rf_cat, vc_int, vc_ref, vc_long]) (fun ls hl => ?_)
        refine lv_aload_n (pc := 68) hx hb dX0_digest_68 rfl (lv_at hl 1 rfl) ?_
        refine lv_iload (pc := 69) hx hb dX0_digest_69 (lv_at hl 0 rfl) ?_
        obtain ⟨q15, hq15, hd⟩ := bs_bd hd
        refine call_X_mix (pc := 71) S hl hE hK hH q898 hq15 ⟨Nat.le_of_ble_eq_true rfl, Nat.le_of_ble_eq_true rfl⟩ (Nat.le_of_ble_eq_true rfl) dX0_digest_71 ⟨Nat.zero_le _, Nat.zero_le _⟩ (fun H locs hH => ?_)
        refine lv_iconst (v := (0 : Int32)) (pc := 74) hx hb dX0_digest_74 (by decide) ?_
        refine lv_istore (pc := 75) (lv' := [(6, .int (0 : Int32)), (5, .int y0), (0, .ref (ah a 0)), (1, .ref (ah a 2)), (2, .int x2), (3, .int x3), (4, va_rf (ar a j4))]) hx hb dX0_digest_75 hl (by decide) rfl (fun ls hl => ?_)
        exact h77 bs_fu q15 x2 x3 j4 hj4 y0 (0 : Int32) _ _ _ hH (lv_sub hl [2, 3, 4, 5, 6, 1, 0] rfl) hd
      intro st x2 x3 H locs ls hH hl hd
      rw [X_digest_L44] at hd
      refine lv_iload_n (pc := 44) hx hb dX0_digest_44 rfl (lv_at hl 3 rfl) ?_
      refine lv_iload_n (pc := 45) hx hb dX0_digest_45 rfl (lv_at hl 2 rfl) ?_
      refine lv_icmp_ge (pc := 46) (tgt := 105) hx hb dX0_digest_46 (by decide) (fun c7 => ?_) (fun c7 => ?_)
      · have hd := if_t c7 hd
        refine lv_aload_n (pc := 105) hx hb dX0_digest_105 rfl (lv_at hl 0 rfl) ?_
        refine xg_texts (pc := 106) S hK hH dX0_digest_106 ?_
        refine lv_astore_n (pc := 109) (lv' := [(1, .ref (ah a 3)), (0, .ref (ah a 0)), (2, .int x2), (3, .int x3)]) hx hb dX0_digest_109 rfl hl (by decide) rfl (fun ls hl => ?_)
        refine lv_aload_n (pc := 110) hx hb dX0_digest_110 rfl (lv_at hl 0 rfl) ?_
        refine xn_texts (pc := 111) S hK hH dX0_digest_111 ?_
        refine lv_istore_n (pc := 112) (lv' := [(2, .int (4 : Int32)), (1, .ref (ah a 3)), (0, .ref (ah a 0)), (3, .int x3)]) hx hb dX0_digest_112 rfl hl (by decide) rfl (fun ls hl => ?_)
        refine lv_iconst (v := (0 : Int32)) (pc := 113) hx hb dX0_digest_113 (by decide) ?_
        refine lv_istore_n (pc := 114) (lv' := [(3, .int (0 : Int32)), (2, .int (4 : Int32)), (1, .ref (ah a 3)), (0, .ref (ah a 0))]) hx hb dX0_digest_114 rfl hl (by decide) rfl (fun ls hl => ?_)
        exact h115 bs_fu st (4 : Int32) (0 : Int32) _ _ _ hH (lv_sub hl [3, 2, 1, 0] rfl) hd
      · have hd := if_n c7 hd
        refine lv_aload_n (pc := 49) hx hb dX0_digest_49 rfl (lv_at hl 1 rfl) ?_
        refine lv_iload_n (pc := 50) hx hb dX0_digest_50 rfl (lv_at hl 3 rfl) ?_
        obtain ⟨v8, hv8, hd⟩ := bs_bd hd
        refine xq_rows (pc := 51) S hK hH hv8 dX0_digest_51 ?_
        refine lv_astoreO (pc := 52) (lv' := [(4, va_rf (ar a v8)), (0, .ref (ah a 0)), (1, .ref (ah a 2)), (2, .int x2), (3, .int x3)]) hx hb dX0_digest_52 hl (by decide) rfl (fun ls hl => ?_)
        refine lv_aloadO (pc := 54) hx hb dX0_digest_54 (lv_at hl 0 rfl) ?_
        refine lv_ifnonnullO (pc := 56) (tgt := 63) hx hb dX0_digest_56 (by decide) (fun c9 => ?_) (fun c9 => ?_)
        · have hd := if_t ((xo_r hH (Nat.lt_of_lt_of_le (bs_ix_lt hv8) (by decide))).symm.trans c9) hd
          refine lv_aloadO (pc := 63) hx hb dX0_digest_63 (lv_at hl 0 rfl) ?_
          obtain ⟨v10, hv10, hd⟩ := bs_bd hd
          refine xr_len (pc := 65) (j := v8) S hK hH (Nat.lt_of_lt_of_le (bs_ix_lt hv8) (by decide)) hv10 dX0_digest_65 ?_
          exact h66 st x2 x3 v8 (bs_ix_lt hv8) v10 _ _ _ hH (lv_sub hl [1, 2, 3, 4, 0] rfl) hd
        · have hd := if_n (fun h9 => c9 ((xo_r hH (Nat.lt_of_lt_of_le (bs_ix_lt hv8) (by decide))).trans h9)) hd
          refine lv_iconst (v := (-1 : Int32)) (pc := 59) hx hb dX0_digest_59 (by decide) ?_
          refine lv_goto (pc := 60) (tgt := 66) hx hb dX0_digest_60 (by decide) ?_
          exact h66 st x2 x3 v8 (bs_ix_lt hv8) (-1 : Int32) _ _ _ hH (lv_sub hl [1, 2, 3, 4, 0] rfl) hd
  have h30 : ∀ (st : XS) (H : Heap) (locs : List Loc) (ls : Array Slot), GH D (gA (xAs a) sz) (xAs a) U.heap (WX ct a ρ st) H locs → lv_has ls 7 [(0, .ref (ah a 0))] → X_digest_J30 st = some z → W p l e rm_X_digest U m args below meth c H locs 0 0 (MQ below (GQl D (xAs a) (xAs a) (WX ct a ρ z.1) sz z.2) args U 0 0 (gA (xAs a) sz)) (F0 m 30 ls []) := by
    intro st H locs ls hH hl hd
    unfold X_digest_J30 at hd
    refine lv_aload_n (pc := 30) hx hb dX0_digest_30 rfl (lv_at hl 0 rfl) ?_
    obtain ⟨q6, hq6, hd⟩ := bs_bd hd
    refine call_X_mixParish (pc := 31) S hl hE hK hH q903 hq6 ⟨Nat.le_of_ble_eq_true rfl, Nat.le_of_ble_eq_true rfl⟩ (Nat.le_of_ble_eq_true rfl) dX0_digest_31 ⟨Nat.zero_le _, Nat.zero_le _⟩ (fun H locs hH => ?_)
    refine lv_aload_n (pc := 34) hx hb dX0_digest_34 rfl (lv_at hl 0 rfl) ?_
    refine xg_rows (pc := 35) S hK hH dX0_digest_35 ?_
    refine lv_astore_n (pc := 38) (lv' := [(1, .ref (ah a 2)), (0, .ref (ah a 0))]) hx hb dX0_digest_38 rfl hl (by decide) rfl (fun ls hl => ?_)
    refine lv_aload_n (pc := 39) hx hb dX0_digest_39 rfl (lv_at hl 0 rfl) ?_
    refine xn_rows (pc := 40) S hK hH dX0_digest_40 ?_
    refine lv_istore_n (pc := 41) (lv' := [(2, .int (6 : Int32)), (1, .ref (ah a 2)), (0, .ref (ah a 0))]) hx hb dX0_digest_41 rfl hl (by decide) rfl (fun ls hl => ?_)
    refine lv_iconst (v := (0 : Int32)) (pc := 42) hx hb dX0_digest_42 (by decide) ?_
    refine lv_istore_n (pc := 43) (lv' := [(3, .int (0 : Int32)), (2, .int (6 : Int32)), (1, .ref (ah a 2)), (0, .ref (ah a 0))]) hx hb dX0_digest_43 rfl hl (by decide) rfl (fun ls hl => ?_)
    exact h44 bs_fu q6 (6 : Int32) (0 : Int32) _ _ _ hH (lv_sub hl [3, 2, 1, 0] rfl) hd
  have h9 : ∀ (n9 : Nat) (st : XS) (x1 : Int32) (H : Heap) (locs : List Loc) (ls : Array Slot), GH D (gA (xAs a) sz) (xAs a) U.heap (WX ct a ρ st) H locs → lv_has ls 7 [(0, .ref (ah a 0)), (1, .int x1)] → X_digest_L9 (X_digest_J30) n9 st x1 = some z → W p l e rm_X_digest U m args below meth c H locs 0 0 (MQ below (GQl D (xAs a) (xAs a) (WX ct a ρ z.1) sz z.2) args U 0 0 (gA (xAs a) sz)) (F0 m 9 ls []) := by
    intro n9
    induction n9 with
    | zero =>
      intro st x1 H locs ls hH hl hd
      rw [X_digest_L9] at hd
      cases hd
    | succ n9 ih9 =>
      intro st x1 H locs ls hH hl hd
      rw [X_digest_L9] at hd
      refine lv_iload_n (pc := 9) hx hb dX0_digest_9 rfl (lv_at hl 1 rfl) ?_
      refine lv_bipush (v := (10 : Int32)) (pc := 10) hx hb dX0_digest_10 (by decide) ?_
      refine lv_icmp_gt (pc := 12) (tgt := 30) hx hb dX0_digest_12 (by decide) (fun c2 => ?_) (fun c2 => ?_)
      · have hd := if_t c2 hd
        exact h30 st _ _ _ hH (lv_sub hl [0] rfl) hd
      · have hd := if_n c2 hd
        refine lv_aload_n (pc := 15) hx hb dX0_digest_15 rfl (lv_at hl 0 rfl) ?_
        refine lv_aload_n (pc := 16) hx hb dX0_digest_16 rfl (lv_at hl 0 rfl) ?_
        refine lv_iload_n (pc := 17) hx hb dX0_digest_17 rfl (lv_at hl 1 rfl) ?_
        obtain ⟨v3, hv3, hd⟩ := bs_bd hd
        refine call_X_countOf (pc := 18) S hl hE hK hH q848 hv3 ⟨Nat.le_of_ble_eq_true rfl, Nat.le_of_ble_eq_true rfl⟩ (Nat.le_of_ble_eq_true rfl) dX0_digest_18 ⟨Nat.zero_le _, Nat.zero_le _⟩ ?_
        obtain ⟨q4, hq4, hd⟩ := bs_bd hd
        refine call_X_mix (pc := 21) S hl hE hK hH q898 hq4 ⟨Nat.le_of_ble_eq_true rfl, Nat.le_of_ble_eq_true rfl⟩ (Nat.le_of_ble_eq_true rfl) dX0_digest_21 ⟨Nat.zero_le _, Nat.zero_le _⟩ (fun H locs hH => ?_)
        obtain ⟨w5, ew5, hd⟩ := bs_let_spec hd
        refine lv_iinc (pc := 24) (v := w5) (lv' := [(1, .int w5), (0, .ref (ah a 0))]) hx hb dX0_digest_24 hl (k := 1) rfl (by rw [ew5]; rfl) (by decide) rfl (fun ls hl => ?_)
        refine lv_goto (pc := 27) (tgt := 9) hx hb dX0_digest_27 (by decide) ?_
        exact ih9 q4 w5 _ _ _ hH (lv_sub hl [1, 0] rfl) hd
  unfold X_digest at hd
  refine lv_aload_n (pc := 0) hx hb dX0_digest_0 rfl (lv_at hl 0 rfl) ?_
  refine lv_ldc2 (pc := 1) (own := RX0) (v := (17 : Int64)) hx hb S.2.2.2.1 (S.2.2.2.2 _ q897) dX0_digest_1 ?_
  obtain ⟨s1, es1, hd⟩ := bs_let_spec hd
  refine xp_h0 (pc := 4) S hK hH dX0_digest_4 es1 (fun H locs hH => ?_)
  refine lv_iconst (v := (0 : Int32)) (pc := 7) hx hb dX0_digest_7 (by decide) ?_
  refine lv_istore_n (pc := 8) (lv' := [(1, .int (0 : Int32)), (0, .ref (ah a 0))]) hx hb dX0_digest_8 rfl hl (by decide) rfl (fun ls hl => ?_)
  exact h9 bs_fu s1 (0 : Int32) _ _ _ hH (lv_sub hl [1, 0] rfl) hd
section CR_X_digest
variable {p : Program} {l : Launch} {e : Env} {R : Room} {s : State} {m : MethodId} {args : Array Value} {below : List Frame} {meth : Method} {c : Code} {H : Heap} {locs : List Loc} {cells slots : Nat} {Q : State → Prop}
variable {cc : ByteArray} {pc nL idx : Nat} {ls : Array Slot} {rest : List Value} {lv : List (Nat × Value)} {A : Nat → Prop} {H0 : Heap} {own : String}
theorem call_X_digest {D : va_G} {ct : Nat → ClassId} {a : XA} {ρ : Option Nat} {st : XS} {z : (XS × Int64)} (S : CallFix p m c cc nL s args lw_all own) (hl : lv_has ls nL lv) (hE : gEX s) (hK : va_K D clA (tysG ct) s) (hH : GH D A (xAs a) H0 (WX ct a ρ st) H locs) (hlk : Cond.methodLink own idx yX0_digest ∈ lw_all) (hv : X_digest st = some z) (hR : 10 ≤ R.frames ∧ 262 ≤ R.locals) (hsum : (rest.map fun v => v.category).sum ≤ 8) (hdg : decode cc pc = .ok (.invokevirtual idx, 3)) (hf : cells ≤ R.cells ∧ slots ≤ R.slots)
    (k : ∀ (H1 : Heap) (locs1 : List Loc), GH D A (xAs a) H0 (WX ct a ρ z.1) H1 locs1 → W p l e R s m args below meth c H1 locs1 cells slots Q (F0 m (pc + 3) ls (.long z.2 :: rest))) : W p l e R s m args below meth c H locs cells slots Q (F0 m pc ls (.ref (ah a 0) :: rest)) :=
  g_calll (av := []) S hl gEX_ok hE hK hH (met_X_digest l D ct a ρ H.size st z hv) (lw_V hlk q894 q895 q69 q896) rfl rfl ⟨rfl, by decide, by decide, by show (parseMethodDescriptor yX0_digest.desc).map (fun d => d.parameters.length) = some 0; decide +kernel⟩ hR (x_recv hK hH) (fun _ h => Or.inl h) rfl hsum hdg hf k
end CR_X_digest
