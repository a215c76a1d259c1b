set_option maxRecDepth 100000
/-! CapCouncilModel.goTurn (I)V -/
def M_goTurn_J71 (k24 : MS → Int32 → Int32 → Int32 → Option MS) (a1 : Int32) (st : MS) (x2 : Int32) (x3 : Int32) (x4 : Int32) (x5 : Int32) (y0 : Int32) : Option MS :=
  if y0 = 0 then
    (bs_let (x4 + (1 : Int32)) fun w18 =>
    k24 st x2 x3 w18)
  else
    (if a1 = 0 then
      (if x3 ≤ x5 then
        (bs_let (x4 + (1 : Int32)) fun w24 =>
        k24 st x2 x3 w24)
      else
        (bs_let (x4 + (1 : Int32)) fun w25 =>
        k24 st x2 x5 w25))
    else
      (if x5 ≤ x3 then
        (bs_let (x4 + (1 : Int32)) fun w21 =>
        k24 st x2 x3 w21)
      else
        (bs_let (x4 + (1 : Int32)) fun w22 =>
        k24 st x2 x5 w22)))
def M_goTurn_J63 (k24 : MS → Int32 → Int32 → Int32 → Option MS) (a1 : Int32) (st : MS) (x2 : Int32) (x3 : Int32) (x4 : Int32) (x5 : Int32) (y0 : Int32) (y1 : Int32) : Option MS :=
  if y1 = y0 then
    (M_goTurn_J71 (k24) a1 st x2 x3 x4 x5 (1 : Int32))
  else
    (M_goTurn_J71 (k24) a1 st x2 x3 x4 x5 (0 : Int32))
def M_goTurn_L24 (k2 : MS → Int32 → Option MS) (a1 : Int32) : Nat → MS → Int32 → Int32 → Int32 → Option MS
  | 0, _, _, _, _ => none
  | n + 1, st, x2, x3, x4 =>
    (bs_ld (ma st 0) 84 (0 : Int32)).bind fun v9 =>
    if v9 ≤ x4 then
      ((mast st 11 32 x2 x3).bind fun s11 =>
      bs_let (x2 + (1 : Int32)) fun w12 =>
      k2 s11 w12)
    else
      ((bs_ld (ma st 10) 32 (x2 ^^^ ((1 : Int32) <<< (x4 &&& 31)))).bind fun v13 =>
      (M_has x2 x4).bind fun v14 =>
      if a1 = 0 then
        (M_goTurn_J63 (M_goTurn_L24 k2 a1 n) a1 st x2 x3 x4 v13 (1 : Int32) v14)
      else
        (M_goTurn_J63 (M_goTurn_L24 k2 a1 n) a1 st x2 x3 x4 v13 (0 : Int32) v14))
def M_goTurn_L2 (k125 : MS → Int32 → Option MS) (a1 : Int32) : Nat → MS → Int32 → Option MS
  | 0, _, _ => none
  | n + 1, st, x2 =>
    (bs_ld (ma st 0) 84 (0 : Int32)).bind fun v1 =>
    if ((1 : Int32) <<< (v1 &&& 31)) ≤ x2 then
      (k125 st (0 : Int32))
    else
      ((bs_ld (ma st 10) 32 x2).bind fun v3 =>
      M_goTurn_L24 (M_goTurn_L2 k125 a1 n) a1 bs_fu st x2 v3 (0 : Int32))
def M_goTurn_L125 (a1 : Int32) : Nat → MS → Int32 → Option MS
  | 0, _, _ => none
  | n + 1, st, x2 =>
    (bs_ld (ma st 0) 84 (0 : Int32)).bind fun v4 =>
    if ((1 : Int32) <<< (v4 &&& 31)) ≤ x2 then
      (some st)
    else
      ((bs_ld (ma st 11) 32 x2).bind fun v6 =>
      (mast st 10 32 x2 v6).bind fun s7 =>
      bs_let (x2 + (1 : Int32)) fun w8 =>
      M_goTurn_L125 a1 n s7 w8)
def M_goTurn (st : MS) (a1 : Int32) : Option MS :=
  M_goTurn_L2 (M_goTurn_L125 a1 bs_fu) a1 bs_fu st (0 : Int32)
def rm_M_goTurn : Room := { frames := 1, cells := 0, slots := 0, locals := 21 }
set_option maxHeartbeats 4000000 in
set_option maxRecDepth 100000 in
theorem met_M_goTurn (l : Launch) (D : va_G) (ct : Nat → ClassId) (h : Nat → Nat) (sz : Nat) (st : MS) (a1 : Int32) (z : MS) (hd : M_goTurn st a1 = some z) : Met l yX1_goTurn (ws_ yX1_goTurn cX1_goTurn 7 none) rm_M_goTurn (GPre gE_0 D ct (mAs h) (WM ct h st) sz [.ref (h 0), .int a1]) (GQv D (mAs h) (mAs h) (WM ct h z) sz) 0 0 (gA (mAs h) sz) := by
  refine g_met (cc := cX1_goTurn) (maxL := 7) (ret := none) (by decide) (Nat.le_of_ble_eq_true rfl) ?_
  intro p e U m args below meth c ls S hr hlk hK hH hE hsz hl
  have S : CallFix p m c cX1_goTurn 7 U args lw_all RX1 := S
  have hx := S.1
  have hb := S.2.1
  have hl : lv_has ls 7 [(0, .ref (h 0)), (1, .int a1)] := hl
  have h125 : ∀ (n125 : Nat) (st : MS) (x2 : Int32) (H : Heap) (locs : List Loc) (ls : Array Slot), GH D (gA (mAs h) sz) (mAs h) U.heap (WM ct h st) H locs → lv_has ls 7 [(0, .ref (h 0)), (1, .int a1), (2, .int x2)] → M_goTurn_L125 a1 n125 st x2 = some z → W p l e rm_M_goTurn U m args below meth c H locs 0 0 (MQ below (GQv D (mAs h) (mAs h) (WM ct h z) sz) args U 0 0 (gA (mAs h) sz)) (F0 m 125 ls []) := by
    intro n125
    induction n125 with
    | zero =>
      intro st x2 H locs ls hH hl hd
      rw [M_goTurn_L125] at hd
      cases hd
    | succ n125 ih125 =>
      intro st x2 H locs ls hH hl hd
      rw [M_goTurn_L125] at hd
      refine lv_iload_n (pc := 125) hx hb dX1_goTurn_125 rfl (lv_at hl 2 rfl) ?_
      refine lv_iconst (v := (1 : Int32)) (pc := 126) hx hb dX1_goTurn_126 (by decide) ?_
      refine lv_aload_n (pc := 127) hx hb dX1_goTurn_127 rfl (lv_at hl 0 rfl) ?_
      refine mg_now (pc := 128) S hK hH dX1_goTurn_128 ?_
      refine lv_iconst (v := (0 : Int32)) (pc := 131) hx hb dX1_goTurn_131 (by decide) ?_
      obtain ⟨v4, hv4, hd⟩ := bs_bd hd
      refine ml_now (pc := 132) S hK hH hv4 dX1_goTurn_132 ?_
      refine lv_ishl (pc := 133) hx hb dX1_goTurn_133 ?_
      refine lv_icmp_ge (pc := 134) (tgt := 155) hx hb dX1_goTurn_134 (by decide) (fun c5 => ?_) (fun c5 => ?_)
      · have hd := if_t c5 hd
        exact g_vret (WM ct h) hd S hr hlk hH dX1_goTurn_155
      · have hd := if_n c5 hd
        refine lv_aload_n (pc := 137) hx hb dX1_goTurn_137 rfl (lv_at hl 0 rfl) ?_
        refine mg_values (pc := 138) S hK hH dX1_goTurn_138 ?_
        refine lv_iload_n (pc := 141) hx hb dX1_goTurn_141 rfl (lv_at hl 2 rfl) ?_
        refine lv_aload_n (pc := 142) hx hb dX1_goTurn_142 rfl (lv_at hl 0 rfl) ?_
        refine mg_ahead (pc := 143) S hK hH dX1_goTurn_143 ?_
        refine lv_iload_n (pc := 146) hx hb dX1_goTurn_146 rfl (lv_at hl 2 rfl) ?_
        obtain ⟨v6, hv6, hd⟩ := bs_bd hd
        refine ml_ahead (pc := 147) S hK hH hv6 dX1_goTurn_147 ?_
        obtain ⟨s7, hs7, hd⟩ := bs_bd hd
        refine ms_values (pc := 148) S hK hH hs7 dX1_goTurn_148 (fun H locs hH => ?_)
        obtain ⟨w8, ew8, hd⟩ := bs_let_spec hd
        refine lv_iinc (pc := 149) (v := w8) (lv' := [(2, .int w8), (0, .ref (h 0)), (1, .int a1)]) hx hb dX1_goTurn_149 hl (k := 2) rfl (by rw [ew8]; rfl) (by decide) rfl (fun ls hl => ?_)
        refine lv_goto (pc := 152) (tgt := 125) hx hb dX1_goTurn_152 (by decide) ?_
        exact ih125 s7 w8 _ _ _ hH (lv_sub hl [1, 2, 0] rfl) hd
  have h2 : ∀ (n2 : Nat) (st : MS) (x2 : Int32) (H : Heap) (locs : List Loc) (ls : Array Slot), GH D (gA (mAs h) sz) (mAs h) U.heap (WM ct h st) H locs → lv_has ls 7 [(0, .ref (h 0)), (1, .int a1), (2, .int x2)] → M_goTurn_L2 (M_goTurn_L125 a1 bs_fu) a1 n2 st x2 = some z → W p l e rm_M_goTurn U m args below meth c H locs 0 0 (MQ below (GQv D (mAs h) (mAs h) (WM ct h z) sz) args U 0 0 (gA (mAs h) sz)) (F0 m 2 ls []) := by
    intro n2
    induction n2 with
    | zero =>
      intro st x2 H locs ls hH hl hd
      rw [M_goTurn_L2] at hd
      cases hd
    | succ n2 ih2 =>
      have h24 : ∀ (n24 : Nat) (st : MS) (x2 : Int32) (x3 : Int32) (x4 : Int32) (H : Heap) (locs : List Loc) (ls : Array Slot), GH D (gA (mAs h) sz) (mAs h) U.heap (WM ct h st) H locs → lv_has ls 7 [(0, .ref (h 0)), (1, .int a1), (2, .int x2), (3, .int x3), (4, .int x4)] → M_goTurn_L24 (M_goTurn_L2 (M_goTurn_L125 a1 bs_fu) a1 n2) a1 n24 st x2 x3 x4 = some z → W p l e rm_M_goTurn U m args below meth c H locs 0 0 (MQ below (GQv D (mAs h) (mAs h) (WM ct h z) sz) args U 0 0 (gA (mAs h) sz)) (F0 m 24 ls []) := by
        intro n24
        induction n24 with
        | zero =>
          intro st x2 x3 x4 H locs ls hH hl hd
          rw [M_goTurn_L24] at hd
          cases hd
        | succ n24 ih24 =>
          have h71 : ∀ (st : MS) (x2 : Int32) (x3 : Int32) (x4 : Int32) (x5 : Int32) (y0 : Int32) (H : Heap) (locs : List Loc) (ls : Array Slot), GH D (gA (mAs h) sz) (mAs h) U.heap (WM ct h st) H locs → lv_has ls 7 [(0, .ref (h 0)), (1, .int a1), (2, .int x2), (3, .int x3), (4, .int x4), (5, .int x5)] → M_goTurn_J71 (M_goTurn_L24 (M_goTurn_L2 (M_goTurn_L125 a1 bs_fu) a1 n2) a1 n24) a1 st x2 x3 x4 x5 y0 = some z → W p l e rm_M_goTurn U m args below meth c H locs 0 0 (MQ below (GQv D (mAs h) (mAs h) (WM ct h z) sz) args U 0 0 (gA (mAs h) sz)) (F0 m 71 ls [.int y0]) := by
            intro st x2 x3 x4 x5 y0 H locs ls hH hl hd
            unfold M_goTurn_J71 at hd
            refine lv_istore (pc := 71) (lv' := [(6, .int y0), (0, .ref (h 0)), (1, .int a1), (2, .int x2), (3, .int x3), (4, .int x4), (5, .int x5)]) hx hb dX1_goTurn_71 hl (by decide) rfl (fun ls hl => ?_)
            refine lv_iload (pc := 73) hx hb dX1_goTurn_73 (lv_at hl 0 rfl) ?_
            refine lv_if_eq (pc := 75) (tgt := 102) hx hb dX1_goTurn_75 (by decide) (fun c17 => ?_) (fun c17 => ?_)
            · have hd := if_t c17 hd
              refine lv_iload_n (pc := 102) hx hb dX1_goTurn_102 rfl (lv_at hl 4 rfl) ?_
              refine lv_istore_n (pc := 103) (lv' := [(3, .int x3), (6, .int y0), (0, .ref (h 0)), (1, .int a1), (2, .int x2), (4, .int x4), (5, .int x5)]) hx hb dX1_goTurn_103 rfl hl (by decide) rfl (fun ls hl => ?_)
              obtain ⟨w18, ew18, hd⟩ := bs_let_spec hd
              refine lv_iinc (pc := 104) (v := w18) (lv' := [(4, .int w18), (3, .int x3), (6, .int y0), (0, .ref (h 0)), (1, .int a1), (2, .int x2), (5, .int x5)]) hx hb dX1_goTurn_104 hl (k := 5) rfl (by rw [ew18]; rfl) (by decide) rfl (fun ls hl => ?_)
              refine lv_goto (pc := 107) (tgt := 24) hx hb dX1_goTurn_107 (by decide) ?_
              exact ih24 st x2 x3 w18 _ _ _ hH (lv_sub hl [3, 4, 5, 1, 0] rfl) hd
            · have hd := if_n c17 hd
              refine lv_iload_n (pc := 78) hx hb dX1_goTurn_78 rfl (lv_at hl 2 rfl) ?_
              refine lv_if_ne (pc := 79) (tgt := 91) hx hb dX1_goTurn_79 (by decide) (fun c19 => ?_) (fun c19 => ?_)
              · have hd := if_n c19 hd
                refine lv_iload (pc := 91) hx hb dX1_goTurn_91 (lv_at hl 6 rfl) ?_
                refine lv_iload_n (pc := 93) hx hb dX1_goTurn_93 rfl (lv_at hl 4 rfl) ?_
                refine lv_icmp_le (pc := 94) (tgt := 102) hx hb dX1_goTurn_94 (by decide) (fun c20 => ?_) (fun c20 => ?_)
                · have hd := if_t c20 hd
                  refine lv_iload_n (pc := 102) hx hb dX1_goTurn_102 rfl (lv_at hl 4 rfl) ?_
                  refine lv_istore_n (pc := 103) (lv' := [(3, .int x3), (6, .int y0), (0, .ref (h 0)), (1, .int a1), (2, .int x2), (4, .int x4), (5, .int x5)]) hx hb dX1_goTurn_103 rfl hl (by decide) rfl (fun ls hl => ?_)
                  obtain ⟨w21, ew21, hd⟩ := bs_let_spec hd
                  refine lv_iinc (pc := 104) (v := w21) (lv' := [(4, .int w21), (3, .int x3), (6, .int y0), (0, .ref (h 0)), (1, .int a1), (2, .int x2), (5, .int x5)]) hx hb dX1_goTurn_104 hl (k := 5) rfl (by rw [ew21]; rfl) (by decide) rfl (fun ls hl => ?_)
                  refine lv_goto (pc := 107) (tgt := 24) hx hb dX1_goTurn_107 (by decide) ?_
                  exact ih24 st x2 x3 w21 _ _ _ hH (lv_sub hl [3, 4, 5, 1, 0] rfl) hd
                · have hd := if_n c20 hd
                  refine lv_iload (pc := 97) hx hb dX1_goTurn_97 (lv_at hl 6 rfl) ?_
                  refine lv_goto (pc := 99) (tgt := 103) hx hb dX1_goTurn_99 (by decide) ?_
                  refine lv_istore_n (pc := 103) (lv' := [(3, .int x5), (6, .int y0), (0, .ref (h 0)), (1, .int a1), (2, .int x2), (4, .int x4), (5, .int x5)]) hx hb dX1_goTurn_103 rfl hl (by decide) rfl (fun ls hl => ?_)
                  obtain ⟨w22, ew22, hd⟩ := bs_let_spec hd
                  refine lv_iinc (pc := 104) (v := w22) (lv' := [(4, .int w22), (3, .int x5), (6, .int y0), (0, .ref (h 0)), (1, .int a1), (2, .int x2), (5, .int x5)]) hx hb dX1_goTurn_104 hl (k := 5) rfl (by rw [ew22]; rfl) (by decide) rfl (fun ls hl => ?_)
                  refine lv_goto (pc := 107) (tgt := 24) hx hb dX1_goTurn_107 (by decide) ?_
                  exact ih24 st x2 x5 w22 _ _ _ hH (lv_sub hl [3, 4, 5, 1, 0] rfl) hd
              · have hd := if_t c19 hd
                refine lv_iload (pc := 82) hx hb dX1_goTurn_82 (lv_at hl 6 rfl) ?_
                refine lv_iload_n (pc := 84) hx hb dX1_goTurn_84 rfl (lv_at hl 4 rfl) ?_
                refine lv_icmp_ge (pc := 85) (tgt := 102) hx hb dX1_goTurn_85 (by decide) (fun c23 => ?_) (fun c23 => ?_)
                · have hd := if_t c23 hd
                  refine lv_iload_n (pc := 102) hx hb dX1_goTurn_102 rfl (lv_at hl 4 rfl) ?_
                  refine lv_istore_n (pc := 103) (lv' := [(3, .int x3), (6, .int y0), (0, .ref (h 0)), (1, .int a1), (2, .int x2), (4, .int x4), (5, .int x5)]) hx hb dX1_goTurn_103 rfl hl (by decide) rfl (fun ls hl => ?_)
                  obtain ⟨w24, ew24, hd⟩ := bs_let_spec hd
                  refine lv_iinc (pc := 104) (v := w24) (lv' := [(4, .int w24), (3, .int x3), (6, .int y0), (0, .ref (h 0)), (1, .int a1), (2, .int x2), (5, .int x5)]) hx hb dX1_goTurn_104 hl (k := 5) rfl (by rw [ew24]; rfl) (by decide) rfl (fun ls hl => ?_)
                  refine lv_goto (pc := 107) (tgt := 24) hx hb dX1_goTurn_107 (by decide) ?_
                  exact ih24 st x2 x3 w24 _ _ _ hH (lv_sub hl [3, 4, 5, 1, 0] rfl) hd
                · have hd := if_n c23 hd
                  refine lv_goto (pc := 88) (tgt := 97) hx hb dX1_goTurn_88 (by decide) ?_
                  refine lv_iload (pc := 97) hx hb dX1_goTurn_97 (lv_at hl 6 rfl) ?_
                  refine lv_goto (pc := 99) (tgt := 103) hx hb dX1_goTurn_99 (by decide) ?_
                  refine lv_istore_n (pc := 103) (lv' := [(3, .int x5), (6, .int y0), (0, .ref (h 0)), (1, .int a1), (2, .int x2), (4, .int x4), (5, .int x5)]) hx hb dX1_goTurn_103 rfl hl (by decide) rfl (fun ls hl => ?_)
                  obtain ⟨w25, ew25, hd⟩ := bs_let_spec hd
                  refine lv_iinc (pc := 104) (v := w25) (lv' := [(4, .int w25), (3, .int x5), (6, .int y0), (0, .ref (h 0)), (1, .int a1), (2, .int x2), (5, .int x5)]) hx hb dX1_goTurn_104 hl (k := 5) rfl (by rw [ew25]; rfl) (by decide) rfl (fun ls hl => ?_)
                  refine lv_goto (pc := 107) (tgt := 24) hx hb dX1_goTurn_107 (by decide) ?_
                  exact ih24 st x2 x5 w25 _ _ _ hH (lv_sub hl [3, 4, 5, 1, 0] rfl) hd
          have h63 : ∀ (st : MS) (x2 : Int32) (x3 : Int32) (x4 : Int32) (x5 : Int32) (y0 : Int32) (y1 : Int32) (H : Heap) (locs : List Loc) (ls : Array Slot), GH D (gA (mAs h) sz) (mAs h) U.heap (WM ct h st) H locs → lv_has ls 7 [(0, .ref (h 0)), (1, .int a1), (2, .int x2), (3, .int x3), (4, .int x4), (5, .int x5)] → M_goTurn_J63 (M_goTurn_L24 (M_goTurn_L2 (M_goTurn_L125 a1 bs_fu) a1 n2) a1 n24) a1 st x2 x3 x4 x5 y0 y1 = some z → W p l e rm_M_goTurn U m args below meth c H locs 0 0 (MQ below (GQv D (mAs h) (mAs h) (WM ct h z) sz) args U 0 0 (gA (mAs h) sz)) (F0 m 63 ls [.int y0, .int y1]) := by
            intro st x2 x3 x4 x5 y0 y1 H locs ls hH hl hd
            unfold M_goTurn_J63 at hd
            refine lv_icmp_ne (pc := 63) (tgt := 70) hx hb dX1_goTurn_63 (by decide) (fun c16 => ?_) (fun c16 => ?_)
            · have hd := if_n c16 hd
              refine lv_iconst (v := (0 : Int32)) (pc := 70) hx hb dX1_goTurn_70 (by decide) ?_
              exact h71 st x2 x3 x4 x5 (0 : Int32) _ _ _ hH (lv_sub hl [0, 1, 2, 3, 4, 5] rfl) hd
            · have hd := if_t c16 hd
              refine lv_iconst (v := (1 : Int32)) (pc := 66) hx hb dX1_goTurn_66 (by decide) ?_
              refine lv_goto (pc := 67) (tgt := 71) hx hb dX1_goTurn_67 (by decide) ?_
              exact h71 st x2 x3 x4 x5 (1 : Int32) _ _ _ hH (lv_sub hl [0, 1, 2, 3, 4, 5] rfl) hd
          intro st x2 x3 x4 H locs ls hH hl hd
          rw [M_goTurn_L24] at hd
          refine lv_iload (pc := 24) hx hb dX1_goTurn_24 (lv_at hl 4 rfl) ?_
          refine lv_aload_n (pc := 26) hx hb dX1_goTurn_26 rfl (lv_at hl 0 rfl) ?_
          refine mg_now (pc := 27) S hK hH dX1_goTurn_27 ?_
          refine lv_iconst (v := (0 : Int32)) (pc := 30) hx hb dX1_goTurn_30 (by decide) ?_
          obtain ⟨v9, hv9, hd⟩ := bs_bd hd
          refine ml_now (pc := 31) S hK hH hv9 dX1_goTurn_31 ?_
          refine lv_icmp_ge (pc := 32) (tgt := 110) hx hb dX1_goTurn_32 (by decide) (fun c10 => ?_) (fun c10 => ?_)
          · have hd := if_t c10 hd
            refine lv_aload_n (pc := 110) hx hb dX1_goTurn_110 rfl (lv_at hl 0 rfl) ?_
            refine mg_ahead (pc := 111) S hK hH dX1_goTurn_111 ?_
            refine lv_iload_n (pc := 114) hx hb dX1_goTurn_114 rfl (lv_at hl 2 rfl) ?_
            refine lv_iload_n (pc := 115) hx hb dX1_goTurn_115 rfl (lv_at hl 3 rfl) ?_
            obtain ⟨s11, hs11, hd⟩ := bs_bd hd
            refine ms_ahead (pc := 116) S hK hH hs11 dX1_goTurn_116 (fun H locs hH => ?_)
            obtain ⟨w12, ew12, hd⟩ := bs_let_spec hd
            refine lv_iinc (pc := 117) (v := w12) (lv' := [(2, .int w12), (0, .ref (h 0)), (1, .int a1), (3, .int x3), (4, .int x4)]) hx hb dX1_goTurn_117 hl (k := 2) rfl (by rw [ew12]; rfl) (by decide) rfl (fun ls hl => ?_)
            refine lv_goto (pc := 120) (tgt := 2) hx hb dX1_goTurn_120 (by decide) ?_
            exact ih2 s11 w12 _ _ _ hH (lv_sub hl [1, 2, 0] rfl) hd
          · have hd := if_n c10 hd
            refine lv_aload_n (pc := 35) hx hb dX1_goTurn_35 rfl (lv_at hl 0 rfl) ?_
            refine mg_values (pc := 36) S hK hH dX1_goTurn_36 ?_
            refine lv_iload_n (pc := 39) hx hb dX1_goTurn_39 rfl (lv_at hl 2 rfl) ?_
            refine lv_iconst (v := (1 : Int32)) (pc := 40) hx hb dX1_goTurn_40 (by decide) ?_
            refine lv_iload (pc := 41) hx hb dX1_goTurn_41 (lv_at hl 4 rfl) ?_
            refine lv_ishl (pc := 43) hx hb dX1_goTurn_43 ?_
            refine lv_ixor (pc := 44) hx hb dX1_goTurn_44 ?_
            obtain ⟨v13, hv13, hd⟩ := bs_bd hd
            refine ml_values (pc := 45) S hK hH hv13 dX1_goTurn_45 ?_
            refine lv_istore (pc := 46) (lv' := [(5, .int v13), (0, .ref (h 0)), (1, .int a1), (2, .int x2), (3, .int x3), (4, .int x4)]) hx hb dX1_goTurn_46 hl (by decide) rfl (fun ls hl => ?_)
            refine lv_iload_n (pc := 48) hx hb dX1_goTurn_48 rfl (lv_at hl 3 rfl) ?_
            refine lv_iload (pc := 49) hx hb dX1_goTurn_49 (lv_at hl 5 rfl) ?_
            obtain ⟨v14, hv14, hd⟩ := bs_bd hd
            refine call_M_has (pc := 51) S hl q1075 hv14 ⟨Nat.le_of_ble_eq_true rfl, Nat.le_of_ble_eq_true rfl⟩ (Nat.le_of_ble_eq_true rfl) dX1_goTurn_51 ⟨Nat.zero_le _, Nat.zero_le _⟩ ?_
            refine lv_iload_n (pc := 54) hx hb dX1_goTurn_54 rfl (lv_at hl 2 rfl) ?_
            refine lv_if_ne (pc := 55) (tgt := 62) hx hb dX1_goTurn_55 (by decide) (fun c15 => ?_) (fun c15 => ?_)
            · have hd := if_n c15 hd
              refine lv_iconst (v := (0 : Int32)) (pc := 62) hx hb dX1_goTurn_62 (by decide) ?_
              exact h63 st x2 x3 x4 v13 (0 : Int32) v14 _ _ _ hH (lv_sub hl [1, 2, 3, 4, 5, 0] rfl) hd
            · have hd := if_t c15 hd
              refine lv_iconst (v := (1 : Int32)) (pc := 58) hx hb dX1_goTurn_58 (by decide) ?_
              refine lv_goto (pc := 59) (tgt := 63) hx hb dX1_goTurn_59 (by decide) ?_
              exact h63 st x2 x3 x4 v13 (1 : Int32) v14 _ _ _ hH (lv_sub hl [1, 2, 3, 4, 5, 0] rfl) hd
      intro st x2 H locs ls hH hl hd
      rw [M_goTurn_L2] at hd
      refine lv_iload_n (pc := 2) hx hb dX1_goTurn_2 rfl (lv_at hl 2 rfl) ?_
      refine lv_iconst (v := (1 : Int32)) (pc := 3) hx hb dX1_goTurn_3 (by decide) ?_
      refine lv_aload_n (pc := 4) hx hb dX1_goTurn_4 rfl (lv_at hl 0 rfl) ?_
      refine mg_now (pc := 5) S hK hH dX1_goTurn_5 ?_
      refine lv_iconst (v := (0 : Int32)) (pc := 8) hx hb dX1_goTurn_8 (by decide) ?_
      obtain ⟨v1, hv1, hd⟩ := bs_bd hd
      refine ml_now (pc := 9) S hK hH hv1 dX1_goTurn_9 ?_
      refine lv_ishl (pc := 10) hx hb dX1_goTurn_10 ?_
      refine lv_icmp_ge (pc := 11) (tgt := 123) hx hb dX1_goTurn_11 (by decide) (fun c2 => ?_) (fun c2 => ?_)
      · have hd := if_t c2 hd
        refine lv_iconst (v := (0 : Int32)) (pc := 123) hx hb dX1_goTurn_123 (by decide) ?_
        refine lv_istore_n (pc := 124) (lv' := [(2, .int (0 : Int32)), (0, .ref (h 0)), (1, .int a1)]) hx hb dX1_goTurn_124 rfl hl (by decide) rfl (fun ls hl => ?_)
        exact h125 bs_fu st (0 : Int32) _ _ _ hH (lv_sub hl [1, 2, 0] rfl) hd
      · have hd := if_n c2 hd
        refine lv_aload_n (pc := 14) hx hb dX1_goTurn_14 rfl (lv_at hl 0 rfl) ?_
        refine mg_values (pc := 15) S hK hH dX1_goTurn_15 ?_
        refine lv_iload_n (pc := 18) hx hb dX1_goTurn_18 rfl (lv_at hl 2 rfl) ?_
        obtain ⟨v3, hv3, hd⟩ := bs_bd hd
        refine ml_values (pc := 19) S hK hH hv3 dX1_goTurn_19 ?_
        refine lv_istore_n (pc := 20) (lv' := [(3, .int v3), (0, .ref (h 0)), (1, .int a1), (2, .int x2)]) hx hb dX1_goTurn_20 rfl hl (by decide) rfl (fun ls hl => ?_)
        refine lv_iconst (v := (0 : Int32)) (pc := 21) hx hb dX1_goTurn_21 (by decide) ?_
        refine lv_istore (pc := 22) (lv' := [(4, .int (0 : Int32)), (3, .int v3), (0, .ref (h 0)), (1, .int a1), (2, .int x2)]) hx hb dX1_goTurn_22 hl (by decide) rfl (fun ls hl => ?_)
        exact h24 bs_fu st x2 v3 (0 : Int32) _ _ _ hH (lv_sub hl [2, 3, 4, 1, 0] rfl) hd
  unfold M_goTurn at hd
  refine lv_iconst (v := (0 : Int32)) (pc := 0) hx hb dX1_goTurn_0 (by decide) ?_
  refine lv_istore_n (pc := 1) (lv' := [(2, .int (0 : Int32)), (0, .ref (h 0)), (1, .int a1)]) hx hb dX1_goTurn_1 rfl hl (by decide) rfl (fun ls hl => ?_)
  exact h2 bs_fu st (0 : Int32) _ _ _ hH (lv_sub hl [1, 2, 0] rfl) hd
section CR_M_goTurn
variable {p : Program} {l : Launch} {e : Env} {R : Room} {s : State} {m : MethodId} {args : Array Value} {below : List Frame} {meth : Method} {c : Code} {H : Heap} {locs : List Loc} {cells slots : Nat} {Q : State → Prop}
variable {cc : ByteArray} {pc nL idx : Nat} {ls : Array Slot} {rest : List Value} {lv : List (Nat × Value)} {A : Nat → Prop} {H0 : Heap} {own : String}
theorem call_M_goTurn {D : va_G} {ct : Nat → ClassId} {h : Nat → Nat} {st : MS} {a1 : Int32} {z : MS} (S : CallFix p m c cc nL s args lw_all own) (hl : lv_has ls nL lv) (hK : va_K D clA (tysG ct) s) (hH : GH D A (mAs h) H0 (WM ct h st) H locs) (hlk : Cond.methodLink own idx yX1_goTurn ∈ lw_all) (hv : M_goTurn st a1 = some z) (hR : 2 ≤ R.frames ∧ 47 ≤ R.locals) (hsum : (rest.map fun v => v.category).sum ≤ 8) (hdg : decode cc pc = .ok (.invokevirtual idx, 3)) (hf : cells ≤ R.cells ∧ slots ≤ R.slots)
    (k : ∀ (H1 : Heap) (locs1 : List Loc), GH D A (mAs h) H0 (WM ct h z) H1 locs1 → W p l e R s m args below meth c H1 locs1 cells slots Q (F0 m (pc + 3) ls (rest))) : W p l e R s m args below meth c H locs cells slots Q (F0 m pc ls (.int a1 :: .ref (h 0) :: rest)) :=
  g_callv (av := [.int a1]) S hl gE_0_ok trivial hK hH (met_M_goTurn l D ct h H.size st a1 z hv) (lw_V hlk q1271 qs63 q70 q1272) rfl rfl ⟨rfl, by decide, by decide, by show (parseMethodDescriptor yX1_goTurn.desc).map (fun d => d.parameters.length) = some 1; decide +kernel⟩ hR (m_recv hK hH) (fun _ h => Or.inl h) rfl hsum hdg hf k
end CR_M_goTurn
/-! CapCouncilModel.duel (I)I -/
def M_duel_L28 (k64 : MS → Int32 → Option (MS × Int32)) (a1 : Int32) : Nat → MS → Int32 → Option (MS × Int32)
  | 0, _, _ => none
  | n + 1, st, x2 =>
    (bs_ld (ma st 0) 84 (0 : Int32)).bind fun v5 =>
    if ((1 : Int32) <<< (v5 &&& 31)) ≤ x2 then
      (bs_let (a1 - (1 : Int32)) fun w7 =>
      k64 st w7)
    else
      ((M_bedsBy st x2).bind fun v8 =>
      (M_bits v8).bind fun v9 =>
      (mast st 10 32 x2 v9).bind fun s10 =>
      bs_let (x2 + (1 : Int32)) fun w11 =>
      M_duel_L28 k64 a1 n s10 w11)
def M_duel_L64 (a1 : Int32) : Nat → MS → Int32 → Option (MS × Int32)
  | 0, _, _ => none
  | n + 1, st, x2 =>
    if x2 < 0 then
      ((bs_ld (ma st 0) 84 (71 : Int32)).bind fun v13 =>
      (bs_ld (ma st 10) 32 v13).bind fun v14 =>
      some (st, v14))
    else
      ((M_goTurn st (x2 - x2 / (2 : Int32) * (2 : Int32))).bind fun q15 =>
      bs_let (x2 + (-1 : Int32)) fun w16 =>
      M_duel_L64 a1 n q15 w16)
def M_duel (st : MS) (a1 : Int32) : Option (MS × Int32) :=
  (M_in (a1.toInt64) (0 : Int64) (4 : Int64)).bind fun v1 =>
  if v1 = 0 then
    (some (st, (-1 : Int32)))
  else
    ((bs_ld (ma st 0) 84 (0 : Int32)).bind fun v3 =>
    if v3 = 0 then
      (some (st, (-4 : Int32)))
    else
      (M_duel_L28 (M_duel_L64 a1 bs_fu) a1 bs_fu st (0 : Int32)))
def rm_M_duel : Room := { frames := 5, cells := 0, slots := 0, locals := 121 }
set_option maxHeartbeats 4000000 in
set_option maxRecDepth 100000 in
theorem met_M_duel (l : Launch) (D : va_G) (ct : Nat → ClassId) (h : Nat → Nat) (sz : Nat) (st : MS) (a1 : Int32) (z : (MS × Int32)) (hd : M_duel st a1 = some z) : Met l yX1_duel (ws_ yX1_duel cX1_duel 3 (some .int)) rm_M_duel (GPre gE_0 D ct (mAs h) (WM ct h st) sz [.ref (h 0), .int a1]) (GQi D (mAs h) (mAs h) (WM ct h z.1) sz z.2) 0 0 (gA (mAs h) sz) := by
  refine g_met (cc := cX1_duel) (maxL := 3) (ret := (some .int)) (by decide) (Nat.le_of_ble_eq_true rfl) ?_
  intro p e U m args below meth c ls S hr hlk hK hH hE hsz hl
  have S : CallFix p m c cX1_duel 3 U args lw_all RX1 := S
  have hx := S.1
  have hb := S.2.1
  have hl : lv_has ls 3 [(0, .ref (h 0)), (1, .int a1)] := hl
  have h64 : ∀ (n64 : Nat) (st : MS) (x2 : Int32) (H : Heap) (locs : List Loc) (ls : Array Slot), GH D (gA (mAs h) sz) (mAs h) U.heap (WM ct h st) H locs → lv_has ls 3 [(0, .ref (h 0)), (1, .int a1), (2, .int x2)] → M_duel_L64 a1 n64 st x2 = some z → W p l e rm_M_duel U m args below meth c H locs 0 0 (MQ below (GQi D (mAs h) (mAs h) (WM ct h z.1) sz z.2) args U 0 0 (gA (mAs h) sz)) (F0 m 64 ls []) := by
    intro n64
    induction n64 with
    | zero =>
      intro st x2 H locs ls hH hl hd
      rw [M_duel_L64] at hd
      cases hd
    | succ n64 ih64 =>
      intro st x2 H locs ls hH hl hd
      rw [M_duel_L64] at hd
      refine lv_iload_n (pc := 64) hx hb dX1_duel_64 rfl (lv_at hl 2 rfl) ?_
      refine lv_if_lt (pc := 65) (tgt := 81) hx hb dX1_duel_65 (by decide) (fun c12 => ?_) (fun c12 => ?_)
      · have hd := if_t c12 hd
        refine lv_aload_n (pc := 81) hx hb dX1_duel_81 rfl (lv_at hl 0 rfl) ?_
        refine mg_values (pc := 82) S hK hH dX1_duel_82 ?_
        refine lv_aload_n (pc := 85) hx hb dX1_duel_85 rfl (lv_at hl 0 rfl) ?_
        refine mg_now (pc := 86) S hK hH dX1_duel_86 ?_
        refine lv_bipush (v := (71 : Int32)) (pc := 89) hx hb dX1_duel_89 (by decide) ?_
        obtain ⟨v13, hv13, hd⟩ := bs_bd hd
        refine ml_now (pc := 91) S hK hH hv13 dX1_duel_91 ?_
        obtain ⟨v14, hv14, hd⟩ := bs_bd hd
        refine ml_values (pc := 92) S hK hH hv14 dX1_duel_92 ?_
        exact g_iret (WM ct h) hd S hr hlk hH dX1_duel_93
      · have hd := if_n c12 hd
        refine lv_aload_n (pc := 68) hx hb dX1_duel_68 rfl (lv_at hl 0 rfl) ?_
        refine lv_iload_n (pc := 69) hx hb dX1_duel_69 rfl (lv_at hl 2 rfl) ?_
        refine lv_iconst (v := (2 : Int32)) (pc := 70) hx hb dX1_duel_70 (by decide) ?_
        refine lv_irem (pc := 71) hx hb dX1_duel_71 (by decide) ?_
        obtain ⟨q15, hq15, hd⟩ := bs_bd hd
        refine call_M_goTurn (pc := 72) S hl hK hH q1269 hq15 ⟨Nat.le_of_ble_eq_true rfl, Nat.le_of_ble_eq_true rfl⟩ (Nat.le_of_ble_eq_true rfl) dX1_duel_72 ⟨Nat.zero_le _, Nat.zero_le _⟩ (fun H locs hH => ?_)
        obtain ⟨w16, ew16, hd⟩ := bs_let_spec hd
        refine lv_iinc (pc := 75) (v := w16) (lv' := [(2, .int w16), (0, .ref (h 0)), (1, .int a1)]) hx hb dX1_duel_75 hl (k := 2) rfl (by rw [ew16]; rfl) (by decide) rfl (fun ls hl => ?_)
        refine lv_goto (pc := 78) (tgt := 64) hx hb dX1_duel_78 (by decide) ?_
        exact ih64 q15 w16 _ _ _ hH (lv_sub hl [1, 2, 0] rfl) hd
  have h28 : ∀ (n28 : Nat) (st : MS) (x2 : Int32) (H : Heap) (locs : List Loc) (ls : Array Slot), GH D (gA (mAs h) sz) (mAs h) U.heap (WM ct h st) H locs → lv_has ls 3 [(0, .ref (h 0)), (1, .int a1), (2, .int x2)] → M_duel_L28 (M_duel_L64 a1 bs_fu) a1 n28 st x2 = some z → W p l e rm_M_duel U m args below meth c H locs 0 0 (MQ below (GQi D (mAs h) (mAs h) (WM ct h z.1) sz z.2) args U 0 0 (gA (mAs h) sz)) (F0 m 28 ls []) := by
    intro n28
    induction n28 with
    | zero =>
      intro st x2 H locs ls hH hl hd
      rw [M_duel_L28] at hd
      cases hd
    | succ n28 ih28 =>
      intro st x2 H locs ls hH hl hd
      rw [M_duel_L28] at hd
      refine lv_iload_n (pc := 28) hx hb dX1_duel_28 rfl (lv_at hl 2 rfl) ?_
      refine lv_iconst (v := (1 : Int32)) (pc := 29) hx hb dX1_duel_29 (by decide) ?_
      refine lv_aload_n (pc := 30) hx hb dX1_duel_30 rfl (lv_at hl 0 rfl) ?_
      refine mg_now (pc := 31) S hK hH dX1_duel_31 ?_
      refine lv_iconst (v := (0 : Int32)) (pc := 34) hx hb dX1_duel_34 (by decide) ?_
      obtain ⟨v5, hv5, hd⟩ := bs_bd hd
      refine ml_now (pc := 35) S hK hH hv5 dX1_duel_35 ?_
      refine lv_ishl (pc := 36) hx hb dX1_duel_36 ?_
      refine lv_icmp_ge (pc := 37) (tgt := 60) hx hb dX1_duel_37 (by decide) (fun c6 => ?_) (fun c6 => ?_)
      · have hd := if_t c6 hd
        refine lv_iload_n (pc := 60) hx hb dX1_duel_60 rfl (lv_at hl 1 rfl) ?_
        refine lv_iconst (v := (1 : Int32)) (pc := 61) hx hb dX1_duel_61 (by decide) ?_
        refine lv_isub (pc := 62) hx hb dX1_duel_62 ?_
        obtain ⟨w7, ew7, hd⟩ := bs_let_spec hd
        refine lv_topE (pc := 63) ew7 ?_
        refine lv_istore_n (pc := 63) (lv' := [(2, .int w7), (0, .ref (h 0)), (1, .int a1)]) hx hb dX1_duel_63 rfl hl (by decide) rfl (fun ls hl => ?_)
        exact h64 bs_fu st w7 _ _ _ hH (lv_sub hl [1, 2, 0] rfl) hd
      · have hd := if_n c6 hd
        refine lv_aload_n (pc := 40) hx hb dX1_duel_40 rfl (lv_at hl 0 rfl) ?_
        refine mg_values (pc := 41) S hK hH dX1_duel_41 ?_
        refine lv_iload_n (pc := 44) hx hb dX1_duel_44 rfl (lv_at hl 2 rfl) ?_
        refine lv_aload_n (pc := 45) hx hb dX1_duel_45 rfl (lv_at hl 0 rfl) ?_
        refine lv_iload_n (pc := 46) hx hb dX1_duel_46 rfl (lv_at hl 2 rfl) ?_
        obtain ⟨v8, hv8, hd⟩ := bs_bd hd
        refine call_M_bedsBy (pc := 47) S hl hK hH q1154 hv8 ⟨Nat.le_of_ble_eq_true rfl, Nat.le_of_ble_eq_true rfl⟩ (Nat.le_of_ble_eq_true rfl) dX1_duel_47 ⟨Nat.zero_le _, Nat.zero_le _⟩ ?_
        obtain ⟨v9, hv9, hd⟩ := bs_bd hd
        refine call_M_bits (pc := 50) S hl q1158 hv9 ⟨Nat.le_of_ble_eq_true rfl, Nat.le_of_ble_eq_true rfl⟩ (Nat.le_of_ble_eq_true rfl) dX1_duel_50 ⟨Nat.zero_le _, Nat.zero_le _⟩ ?_
        obtain ⟨s10, hs10, hd⟩ := bs_bd hd
        refine ms_values (pc := 53) S hK hH hs10 dX1_duel_53 (fun H locs hH => ?_)
        obtain ⟨w11, ew11, hd⟩ := bs_let_spec hd
        refine lv_iinc (pc := 54) (v := w11) (lv' := [(2, .int w11), (0, .ref (h 0)), (1, .int a1)]) hx hb dX1_duel_54 hl (k := 2) rfl (by rw [ew11]; rfl) (by decide) rfl (fun ls hl => ?_)
        refine lv_goto (pc := 57) (tgt := 28) hx hb dX1_duel_57 (by decide) ?_
        exact ih28 s10 w11 _ _ _ hH (lv_sub hl [1, 2, 0] rfl) hd
  unfold M_duel at hd
  refine lv_iload_n (pc := 0) hx hb dX1_duel_0 rfl (lv_at hl 1 rfl) ?_
  refine lv_i2l (pc := 1) hx hb dX1_duel_1 rfl ?_
  refine lv_lconst (v := (0 : Int64)) (pc := 2) hx hb dX1_duel_2 (by decide) ?_
  refine lv_ldc2 (pc := 3) (own := RX1) (v := (4 : Int64)) hx hb S.2.2.2.1 (S.2.2.2.2 _ q1268) dX1_duel_3 ?_
  obtain ⟨v1, hv1, hd⟩ := bs_bd hd
  refine call_M_in (pc := 6) S hl q974 hv1 ⟨Nat.le_of_ble_eq_true rfl, Nat.le_of_ble_eq_true rfl⟩ (Nat.le_of_ble_eq_true rfl) dX1_duel_6 ⟨Nat.zero_le _, Nat.zero_le _⟩ ?_
  refine lv_if_ne (pc := 9) (tgt := 14) hx hb dX1_duel_9 (by decide) (fun c2 => ?_) (fun c2 => ?_)
  · have hd := if_n c2 hd
    refine lv_aload_n (pc := 14) hx hb dX1_duel_14 rfl (lv_at hl 0 rfl) ?_
    refine mg_now (pc := 15) S hK hH dX1_duel_15 ?_
    refine lv_iconst (v := (0 : Int32)) (pc := 18) hx hb dX1_duel_18 (by decide) ?_
    obtain ⟨v3, hv3, hd⟩ := bs_bd hd
    refine ml_now (pc := 19) S hK hH hv3 dX1_duel_19 ?_
    refine lv_if_ne (pc := 20) (tgt := 26) hx hb dX1_duel_20 (by decide) (fun c4 => ?_) (fun c4 => ?_)
    · have hd := if_n c4 hd
      refine lv_iconst (v := (0 : Int32)) (pc := 26) hx hb dX1_duel_26 (by decide) ?_
      refine lv_istore_n (pc := 27) (lv' := [(2, .int (0 : Int32)), (0, .ref (h 0)), (1, .int a1)]) hx hb dX1_duel_27 rfl hl (by decide) rfl (fun ls hl => ?_)
      exact h28 bs_fu st (0 : Int32) _ _ _ hH (lv_sub hl [1, 2, 0] rfl) hd
    · have hd := if_t c4 hd
      refine lv_bipush (v := (-4 : Int32)) (pc := 23) hx hb dX1_duel_23 (by decide) ?_
      exact g_iret (WM ct h) hd S hr hlk hH dX1_duel_25
  · have hd := if_t c2 hd
    refine lv_iconst (v := (-1 : Int32)) (pc := 12) hx hb dX1_duel_12 (by decide) ?_
    exact g_iret (WM ct h) hd S hr hlk hH dX1_duel_13
section CR_M_duel
variable {p : Program} {l : Launch} {e : Env} {R : Room} {s : State} {m : MethodId} {args : Array Value} {below : List Frame} {meth : Method} {c : Code} {H : Heap} {locs : List Loc} {cells slots : Nat} {Q : State → Prop}
variable {cc : ByteArray} {pc nL idx : Nat} {ls : Array Slot} {rest : List Value} {lv : List (Nat × Value)} {A : Nat → Prop} {H0 : Heap} {own : String}
theorem call_M_duel {D : va_G} {ct : Nat → ClassId} {h : Nat → Nat} {st : MS} {a1 : Int32} {z : (MS × Int32)} (S : CallFix p m c cc nL s args lw_all own) (hl : lv_has ls nL lv) (hK : va_K D clA (tysG ct) s) (hH : GH D A (mAs h) H0 (WM ct h st) H locs) (hlk : Cond.methodLink own idx yX1_duel ∈ lw_all) (hv : M_duel st a1 = some z) (hR : 6 ≤ R.frames ∧ 143 ≤ R.locals) (hsum : (rest.map fun v => v.category).sum ≤ 8) (hdg : decode cc pc = .ok (.invokevirtual idx, 3)) (hf : cells ≤ R.cells ∧ slots ≤ R.slots)
    (k : ∀ (H1 : Heap) (locs1 : List Loc), GH D A (mAs h) H0 (WM ct h z.1) H1 locs1 → W p l e R s m args below meth c H1 locs1 cells slots Q (F0 m (pc + 3) ls (.int z.2 :: rest))) : W p l e R s m args below meth c H locs cells slots Q (F0 m pc ls (.int a1 :: .ref (h 0) :: rest)) :=
  g_calli (av := [.int a1]) S hl gE_0_ok trivial hK hH (met_M_duel l D ct h H.size st a1 z hv) (lw_V hlk q1265 q1266 q70 q1267) rfl rfl ⟨rfl, by decide, by decide, by show (parseMethodDescriptor yX1_duel.desc).map (fun d => d.parameters.length) = some 1; decide +kernel⟩ hR (m_recv hK hH) (fun _ h => Or.inl h) rfl hsum hdg hf k
end CR_M_duel
/-! CapCouncilModel.fraction (JJ)V -/
def M_fraction_L6 (k31 : MS → Int64 → Option MS) (a1 : Int64) (a3 : Int64) : Nat → MS → Int64 → Int64 → Option MS
  | 0, _, _, _ => none
  | n + 1, st, x5, x7 =>
    if (lg_cmp x7 (0 : Int64)) = 0 then
      (k31 st x5)
    else
      (bs_nzl x7 <|
      bs_let (x5 - x5 / x7 * x7) fun w3 =>
      M_fraction_L6 k31 a1 a3 n st x7 w3)
def M_fraction_J31 (a1 : Int64) (a3 : Int64) (st : MS) (x5 : Int64) : Option MS :=
  bs_nzl x5 <|
  bs_let (a1 / x5) fun w5 =>
  bs_let (sml st 0 w5) fun s6 =>
  bs_nzl x5 <|
  bs_let (a3 / x5) fun w8 =>
  bs_let (sml s6 1 w8) fun s9 =>
  some s9
def M_fraction (st : MS) (a1 : Int64) (a3 : Int64) : Option MS :=
  M_fraction_L6 (M_fraction_J31 a1 a3) a1 a3 bs_fu st a1 a3
def rm_M_fraction : Room := { frames := 0, cells := 0, slots := 0, locals := 0 }
set_option maxHeartbeats 4000000 in
set_option maxRecDepth 100000 in
theorem met_M_fraction (l : Launch) (D : va_G) (ct : Nat → ClassId) (h : Nat → Nat) (sz : Nat) (st : MS) (a1 : Int64) (a3 : Int64) (z : MS) (hd : M_fraction st a1 a3 = some z) : Met l yX1_fraction (ws_ yX1_fraction cX1_fraction 11 none) rm_M_fraction (GPre gE_0 D ct (mAs h) (WM ct h st) sz [.ref (h 0), .long a1, .long a3]) (GQv D (mAs h) (mAs h) (WM ct h z) sz) 0 0 (gA (mAs h) sz) := by
  refine g_met (cc := cX1_fraction) (maxL := 11) (ret := none) (by decide) (Nat.le_of_ble_eq_true rfl) ?_
  intro p e U m args below meth c ls S hr hlk hK hH hE hsz hl
  have S : CallFix p m c cX1_fraction 11 U args lw_all RX1 := S
  have hx := S.1
  have hb := S.2.1
  have hl : lv_has ls 11 [(0, .ref (h 0)), (1, .long a1), (3, .long a3)] := hl
  have h31 : ∀ (st : MS) (x5 : Int64) (H : Heap) (locs : List Loc) (ls : Array Slot), GH D (gA (mAs h) sz) (mAs h) U.heap (WM ct h st) H locs → lv_has ls 11 [(0, .ref (h 0)), (1, .long a1), (3, .long a3), (5, .long x5)] → M_fraction_J31 a1 a3 st x5 = some z → W p l e rm_M_fraction U m args below meth c H locs 0 0 (MQ below (GQv D (mAs h) (mAs h) (WM ct h z) sz) args U 0 0 (gA (mAs h) sz)) (F0 m 31 ls []) := by
    intro st x5 H locs ls hH hl hd
    unfold M_fraction_J31 at hd
    refine lv_aload_n (pc := 31) hx hb dX1_fraction_31 rfl (lv_at hl 0 rfl) ?_
    refine lv_lload_n (pc := 32) hx hb dX1_fraction_32 rfl (lv_at hl 1 rfl) ?_
    refine lv_lload (pc := 33) hx hb dX1_fraction_33 (lv_at hl 3 rfl) ?_
    obtain ⟨z4, hd⟩ := bs_nzl_spec hd
    refine lv_ldiv (pc := 35) hx hb dX1_fraction_35 z4 ?_
    obtain ⟨w5, ew5, hd⟩ := bs_let_spec hd
    refine lv_topEl (pc := 36) ew5 ?_
    obtain ⟨s6, es6, hd⟩ := bs_let_spec hd
    refine mp_above (pc := 36) S hK hH dX1_fraction_36 es6 (fun H locs hH => ?_)
    refine lv_aload_n (pc := 39) hx hb dX1_fraction_39 rfl (lv_at hl 0 rfl) ?_
    refine lv_lload_n (pc := 40) hx hb dX1_fraction_40 rfl (lv_at hl 2 rfl) ?_
    refine lv_lload (pc := 41) hx hb dX1_fraction_41 (lv_at hl 3 rfl) ?_
    obtain ⟨z7, hd⟩ := bs_nzl_spec hd
    refine lv_ldiv (pc := 43) hx hb dX1_fraction_43 z7 ?_
    obtain ⟨w8, ew8, hd⟩ := bs_let_spec hd
    refine lv_topEl (pc := 44) ew8 ?_
    obtain ⟨s9, es9, hd⟩ := bs_let_spec hd
    refine mp_below (pc := 44) S hK hH dX1_fraction_44 es9 (fun H locs hH => ?_)
    exact g_vret (WM ct h) hd S hr hlk hH dX1_fraction_47
  have h6 : ∀ (n6 : Nat) (st : MS) (x5 : Int64) (x7 : Int64) (H : Heap) (locs : List Loc) (ls : Array Slot), GH D (gA (mAs h) sz) (mAs h) U.heap (WM ct h st) H locs → lv_has ls 11 [(0, .ref (h 0)), (1, .long a1), (3, .long a3), (5, .long x5), (7, .long x7)] → M_fraction_L6 (M_fraction_J31 a1 a3) a1 a3 n6 st x5 x7 = some z → W p l e rm_M_fraction U m args below meth c H locs 0 0 (MQ below (GQv D (mAs h) (mAs h) (WM ct h z) sz) args U 0 0 (gA (mAs h) sz)) (F0 m 6 ls []) := by
    intro n6
    induction n6 with
    | zero =>
      intro st x5 x7 H locs ls hH hl hd
      rw [M_fraction_L6] at hd
      cases hd
    | succ n6 ih6 =>
      intro st x5 x7 H locs ls hH hl hd
      rw [M_fraction_L6] at hd
      refine lv_lload (pc := 6) hx hb dX1_fraction_6 (lv_at hl 4 rfl) ?_
      refine lv_lconst (v := (0 : Int64)) (pc := 8) hx hb dX1_fraction_8 (by decide) ?_
      refine W.lcmp (pc := 9) hx hb dX1_fraction_9 ?_
      refine lv_if_eq (pc := 10) (tgt := 31) hx hb dX1_fraction_10 (by decide) (fun c1 => ?_) (fun c1 => ?_)
      · have hd := if_t c1 hd
        exact h31 st x5 _ _ _ hH (lv_sub hl [0, 1, 2, 3] rfl) hd
      · have hd := if_n c1 hd
        refine lv_lload (pc := 13) hx hb dX1_fraction_13 (lv_at hl 3 rfl) ?_
        refine lv_lload (pc := 15) hx hb dX1_fraction_15 (lv_at hl 4 rfl) ?_
        obtain ⟨z2, hd⟩ := bs_nzl_spec hd
        refine lv_lrem (pc := 17) hx hb dX1_fraction_17 z2 ?_
        obtain ⟨w3, ew3, hd⟩ := bs_let_spec hd
        refine lv_topEl (pc := 18) ew3 ?_
        refine lv_lstore (pc := 18) (lv' := [(9, .long w3), (0, .ref (h 0)), (1, .long a1), (3, .long a3), (5, .long x5), (7, .long x7)]) hx hb dX1_fraction_18 hl (by decide) rfl (fun ls hl => ?_)
        refine lv_lload (pc := 20) hx hb dX1_fraction_20 (lv_at hl 5 rfl) ?_
        refine lv_lstore (pc := 22) (lv' := [(5, .long x7), (9, .long w3), (0, .ref (h 0)), (1, .long a1), (3, .long a3), (7, .long x7)]) hx hb dX1_fraction_22 hl (by decide) rfl (fun ls hl => ?_)
        refine lv_lload (pc := 24) hx hb dX1_fraction_24 (lv_at hl 1 rfl) ?_
        refine lv_lstore (pc := 26) (lv' := [(7, .long w3), (5, .long x7), (9, .long w3), (0, .ref (h 0)), (1, .long a1), (3, .long a3)]) hx hb dX1_fraction_26 hl (by decide) rfl (fun ls hl => ?_)
        refine lv_goto (pc := 28) (tgt := 6) hx hb dX1_fraction_28 (by decide) ?_
        exact ih6 st x7 w3 _ _ _ hH (lv_sub hl [3, 4, 5, 1, 0] rfl) hd
  unfold M_fraction at hd
  refine lv_lload_n (pc := 0) hx hb dX1_fraction_0 rfl (lv_at hl 1 rfl) ?_
  refine lv_lstore (pc := 1) (lv' := [(5, .long a1), (0, .ref (h 0)), (1, .long a1), (3, .long a3)]) hx hb dX1_fraction_1 hl (by decide) rfl (fun ls hl => ?_)
  refine lv_lload_n (pc := 3) hx hb dX1_fraction_3 rfl (lv_at hl 3 rfl) ?_
  refine lv_lstore (pc := 4) (lv' := [(7, .long a3), (5, .long a1), (0, .ref (h 0)), (1, .long a1), (3, .long a3)]) hx hb dX1_fraction_4 hl (by decide) rfl (fun ls hl => ?_)
  exact h6 bs_fu st a1 a3 _ _ _ hH (lv_sub hl [2, 3, 4, 1, 0] rfl) hd
section CR_M_fraction
variable {p : Program} {l : Launch} {e : Env} {R : Room} {s : State} {m : MethodId} {args : Array Value} {below : List Frame} {meth : Method} {c : Code} {H : Heap} {locs : List Loc} {cells slots : Nat} {Q : State → Prop}
variable {cc : ByteArray} {pc nL idx : Nat} {ls : Array Slot} {rest : List Value} {lv : List (Nat × Value)} {A : Nat → Prop} {H0 : Heap} {own : String}
theorem call_M_fraction {D : va_G} {ct : Nat → ClassId} {h : Nat → Nat} {st : MS} {a1 : Int64} {a3 : Int64} {z : MS} (S : CallFix p m c cc nL s args lw_all own) (hl : lv_has ls nL lv) (hK : va_K D clA (tysG ct) s) (hH : GH D A (mAs h) H0 (WM ct h st) H locs) (hlk : Cond.methodLink own idx yX1_fraction ∈ lw_all) (hv : M_fraction st a1 a3 = some z) (hR : 1 ≤ R.frames ∧ 30 ≤ R.locals) (hsum : (rest.map fun v => v.category).sum ≤ 8) (hdg : decode cc pc = .ok (.invokevirtual idx, 3)) (hf : cells ≤ R.cells ∧ slots ≤ R.slots)
    (k : ∀ (H1 : Heap) (locs1 : List Loc), GH D A (mAs h) H0 (WM ct h z) H1 locs1 → W p l e R s m args below meth c H1 locs1 cells slots Q (F0 m (pc + 3) ls (rest))) : W p l e R s m args below meth c H locs cells slots Q (F0 m pc ls (.long a3 :: .long a1 :: .ref (h 0) :: rest)) :=
  g_callv (av := [.long a1, .long a3]) S hl gE_0_ok trivial hK hH (met_M_fraction l D ct h H.size st a1 a3 z hv) (lw_V hlk q1284 qs65 q70 q1285) rfl rfl ⟨rfl, by decide, by decide, by show (parseMethodDescriptor yX1_fraction.desc).map (fun d => d.parameters.length) = some 2; decide +kernel⟩ hR (m_recv hK hH) (fun _ h => Or.inl h) rfl hsum hdg hf k
end CR_M_fraction
/-! CapCouncilModel.goOdds (II)V -/
def M_goOdds_L8 (k40 : MS → Int64 → Int64 → Int32 → Option MS) (a1 : Int32) (a2 : Int32) : Nat → MS → Int64 → Int64 → Int32 → Option MS
  | 0, _, _, _, _ => none
  | n + 1, st, x3, x5, x7 =>
    (bs_ld (ma st 0) 84 (71 : Int32)).bind fun v1 =>
    (M_bits v1).bind fun v2 =>
    if v2 ≤ x7 then
      (k40 st x3 x5 (0 : Int32))
    else
      (bs_let (x5 * (12 : Int64)) fun w4 =>
      bs_let (x7 + (1 : Int32)) fun w5 =>
      M_goOdds_L8 k40 a1 a2 n st x3 w4 w5)
def M_goOdds_J139 (k40 : MS → Int64 → Int64 → Int32 → Option MS) (a1 : Int32) (a2 : Int32) (st : MS) (x3 : Int64) (x5 : Int64) (x7 : Int32) (x8 : Int64) : Option MS :=
  (M_bedsBy st x7).bind fun v24 =>
  (M_bits (v24 &&& a1)).bind fun v25 =>
  bs_let (x3 + (x8 * (v25.toInt64))) fun w26 =>
  bs_let (x7 + (1 : Int32)) fun w27 =>
  k40 st w26 x5 w27
def M_goOdds_L78 (k139 : MS → Int64 → Int64 → Int32 → Int64 → Option MS) (a1 : Int32) (a2 : Int32) : Nat → MS → Int64 → Int64 → Int32 → Int64 → Int32 → Option MS
  | 0, _, _, _, _, _, _ => none
  | n + 1, st, x3, x5, x7, x8, x10 =>
    (bs_ld (ma st 0) 84 (0 : Int32)).bind fun v11 =>
    if v11 ≤ x10 then
      (k139 st x3 x5 x7 x8)
    else
      ((bs_ld (ma st 0) 84 (71 : Int32)).bind fun v13 =>
      (M_has v13 x10).bind fun v14 =>
      if v14 = 0 then
        (bs_let (x8 * (1 : Int64)) fun w22 =>
        bs_let (x10 + (1 : Int32)) fun w23 =>
        M_goOdds_L78 k139 a1 a2 n st x3 x5 x7 w22 w23)
      else
        ((M_has x7 x10).bind fun v16 =>
        if v16 = 0 then
          (bs_let (x8 * (a2.toInt64)) fun w18 =>
          bs_let (x10 + (1 : Int32)) fun w19 =>
          M_goOdds_L78 k139 a1 a2 n st x3 x5 x7 w18 w19)
        else
          (bs_let (x8 * ((((12 : Int32) - a2)).toInt64)) fun w20 =>
          bs_let (x10 + (1 : Int32)) fun w21 =>
          M_goOdds_L78 k139 a1 a2 n st x3 x5 x7 w20 w21)))
def M_goOdds_L40 (k163 : MS → Int64 → Int64 → Option MS) (a1 : Int32) (a2 : Int32) : Nat → MS → Int64 → Int64 → Int32 → Option MS
  | 0, _, _, _, _ => none
  | n + 1, st, x3, x5, x7 =>
    (bs_ld (ma st 0) 84 (0 : Int32)).bind fun v6 =>
    if ((1 : Int32) <<< (v6 &&& 31)) ≤ x7 then
      (k163 st x3 x5)
    else
      ((bs_ld (ma st 0) 84 (71 : Int32)).bind fun v8 =>
      if (x7 &&& (v8 ^^^ (-1 : Int32))) = 0 then
        (M_goOdds_L78 (M_goOdds_J139 (M_goOdds_L40 k163 a1 a2 n) a1 a2) a1 a2 bs_fu st x3 x5 x7 (1 : Int64) (0 : Int32))
      else
        (M_goOdds_L78 (M_goOdds_J139 (M_goOdds_L40 k163 a1 a2 n) a1 a2) a1 a2 bs_fu st x3 x5 x7 (0 : Int64) (0 : Int32)))
def M_goOdds_J163 (a1 : Int32) (a2 : Int32) (st : MS) (x3 : Int64) (x5 : Int64) : Option MS :=
  (M_fraction st x3 x5).bind fun q10 =>
  some q10
def M_goOdds (st : MS) (a1 : Int32) (a2 : Int32) : Option MS :=
  M_goOdds_L8 (M_goOdds_L40 (M_goOdds_J163 a1 a2) a1 a2 bs_fu) a1 a2 bs_fu st (0 : Int64) (1 : Int64) (0 : Int32)
def rm_M_goOdds : Room := { frames := 5, cells := 0, slots := 0, locals := 121 }
set_option maxHeartbeats 4000000 in
set_option maxRecDepth 100000 in
theorem met_M_goOdds (l : Launch) (D : va_G) (ct : Nat → ClassId) (h : Nat → Nat) (sz : Nat) (st : MS) (a1 : Int32) (a2 : Int32) (z : MS) (hd : M_goOdds st a1 a2 = some z) : Met l yX1_goOdds (ws_ yX1_goOdds cX1_goOdds 11 none) rm_M_goOdds (GPre gE_0 D ct (mAs h) (WM ct h st) sz [.ref (h 0), .int a1, .int a2]) (GQv D (mAs h) (mAs h) (WM ct h z) sz) 0 0 (gA (mAs h) sz) := by
  refine g_met (cc := cX1_goOdds) (maxL := 11) (ret := none) (by decide) (Nat.le_of_ble_eq_true rfl) ?_
  intro p e U m args below meth c ls S hr hlk hK hH hE hsz hl
  have S : CallFix p m c cX1_goOdds 11 U args lw_all RX1 := S
  have hx := S.1
  have hb := S.2.1
  have hl : lv_has ls 11 [(0, .ref (h 0)), (1, .int a1), (2, .int a2)] := hl
  have h163 : ∀ (st : MS) (x3 : Int64) (x5 : Int64) (H : Heap) (locs : List Loc) (ls : Array Slot), GH D (gA (mAs h) sz) (mAs h) U.heap (WM ct h st) H locs → lv_has ls 11 [(0, .ref (h 0)), (1, .int a1), (2, .int a2), (3, .long x3), (5, .long x5)] → M_goOdds_J163 a1 a2 st x3 x5 = some z → W p l e rm_M_goOdds U m args below meth c H locs 0 0 (MQ below (GQv D (mAs h) (mAs h) (WM ct h z) sz) args U 0 0 (gA (mAs h) sz)) (F0 m 163 ls []) := by
    intro st x3 x5 H locs ls hH hl hd
    unfold M_goOdds_J163 at hd
    refine lv_aload_n (pc := 163) hx hb dX1_goOdds_163 rfl (lv_at hl 0 rfl) ?_
    refine lv_lload_n (pc := 164) hx hb dX1_goOdds_164 rfl (lv_at hl 3 rfl) ?_
    refine lv_lload (pc := 165) hx hb dX1_goOdds_165 (lv_at hl 4 rfl) ?_
    obtain ⟨q10, hq10, hd⟩ := bs_bd hd
    refine call_M_fraction (pc := 167) S hl hK hH q1282 hq10 ⟨Nat.le_of_ble_eq_true rfl, Nat.le_of_ble_eq_true rfl⟩ (Nat.le_of_ble_eq_true rfl) dX1_goOdds_167 ⟨Nat.zero_le _, Nat.zero_le _⟩ (fun H locs hH => ?_)
    exact g_vret (WM ct h) hd S hr hlk hH dX1_goOdds_170
  have h40 : ∀ (n40 : Nat) (st : MS) (x3 : Int64) (x5 : Int64) (x7 : Int32) (H : Heap) (locs : List Loc) (ls : Array Slot), GH D (gA (mAs h) sz) (mAs h) U.heap (WM ct h st) H locs → lv_has ls 11 [(0, .ref (h 0)), (1, .int a1), (2, .int a2), (3, .long x3), (5, .long x5), (7, .int x7)] → M_goOdds_L40 (M_goOdds_J163 a1 a2) a1 a2 n40 st x3 x5 x7 = some z → W p l e rm_M_goOdds U m args below meth c H locs 0 0 (MQ below (GQv D (mAs h) (mAs h) (WM ct h z) sz) args U 0 0 (gA (mAs h) sz)) (F0 m 40 ls []) := by
    intro n40
    induction n40 with
    | zero =>
      intro st x3 x5 x7 H locs ls hH hl hd
      rw [M_goOdds_L40] at hd
      cases hd
    | succ n40 ih40 =>
      have h139 : ∀ (st : MS) (x3 : Int64) (x5 : Int64) (x7 : Int32) (x8 : Int64) (H : Heap) (locs : List Loc) (ls : Array Slot), GH D (gA (mAs h) sz) (mAs h) U.heap (WM ct h st) H locs → lv_has ls 11 [(0, .ref (h 0)), (1, .int a1), (2, .int a2), (3, .long x3), (5, .long x5), (7, .int x7), (8, .long x8)] → M_goOdds_J139 (M_goOdds_L40 (M_goOdds_J163 a1 a2) a1 a2 n40) a1 a2 st x3 x5 x7 x8 = some z → W p l e rm_M_goOdds U m args below meth c H locs 0 0 (MQ below (GQv D (mAs h) (mAs h) (WM ct h z) sz) args U 0 0 (gA (mAs h) sz)) (F0 m 139 ls []) := by
        intro st x3 x5 x7 x8 H locs ls hH hl hd
        unfold M_goOdds_J139 at hd
        refine lv_lload_n (pc := 139) hx hb dX1_goOdds_139 rfl (lv_at hl 3 rfl) ?_
        refine lv_lload (pc := 140) hx hb dX1_goOdds_140 (lv_at hl 6 rfl) ?_
        refine lv_aload_n (pc := 142) hx hb dX1_goOdds_142 rfl (lv_at hl 0 rfl) ?_
        refine lv_iload (pc := 143) hx hb dX1_goOdds_143 (lv_at hl 5 rfl) ?_
        obtain ⟨v24, hv24, hd⟩ := bs_bd hd
        refine call_M_bedsBy (pc := 145) S hl hK hH q1154 hv24 ⟨Nat.le_of_ble_eq_true rfl, Nat.le_of_ble_eq_true rfl⟩ (Nat.le_of_ble_eq_true rfl) dX1_goOdds_145 ⟨Nat.zero_le _, Nat.zero_le _⟩ ?_
        refine lv_iload_n (pc := 148) hx hb dX1_goOdds_148 rfl (lv_at hl 1 rfl) ?_
        refine lv_iand (pc := 149) hx hb dX1_goOdds_149 ?_
        obtain ⟨v25, hv25, hd⟩ := bs_bd hd
        refine call_M_bits (pc := 150) S hl q1158 hv25 ⟨Nat.le_of_ble_eq_true rfl, Nat.le_of_ble_eq_true rfl⟩ (Nat.le_of_ble_eq_true rfl) dX1_goOdds_150 ⟨Nat.zero_le _, Nat.zero_le _⟩ ?_
        refine lv_i2l (pc := 153) hx hb dX1_goOdds_153 rfl ?_
        refine lv_lmul (pc := 154) hx hb dX1_goOdds_154 ?_
        refine lv_ladd (pc := 155) hx hb dX1_goOdds_155 ?_
        obtain ⟨w26, ew26, hd⟩ := bs_let_spec hd
        refine lv_topEl (pc := 156) ew26 ?_
        refine lv_lstore_n (pc := 156) (lv' := [(3, .long w26), (0, .ref (h 0)), (1, .int a1), (2, .int a2), (5, .long x5), (7, .int x7), (8, .long x8)]) hx hb dX1_goOdds_156 rfl hl (by decide) rfl (fun ls hl => ?_)
        obtain ⟨w27, ew27, hd⟩ := bs_let_spec hd
        refine lv_iinc (pc := 157) (v := w27) (lv' := [(7, .int w27), (3, .long w26), (0, .ref (h 0)), (1, .int a1), (2, .int a2), (5, .long x5), (8, .long x8)]) hx hb dX1_goOdds_157 hl (k := 5) rfl (by rw [ew27]; rfl) (by decide) rfl (fun ls hl => ?_)
        refine lv_goto (pc := 160) (tgt := 40) hx hb dX1_goOdds_160 (by decide) ?_
        exact ih40 st w26 x5 w27 _ _ _ hH (lv_sub hl [2, 3, 4, 1, 5, 0] rfl) hd
      have h78 : ∀ (n78 : Nat) (st : MS) (x3 : Int64) (x5 : Int64) (x7 : Int32) (x8 : Int64) (x10 : Int32) (H : Heap) (locs : List Loc) (ls : Array Slot), GH D (gA (mAs h) sz) (mAs h) U.heap (WM ct h st) H locs → lv_has ls 11 [(0, .ref (h 0)), (1, .int a1), (2, .int a2), (3, .long x3), (5, .long x5), (7, .int x7), (8, .long x8), (10, .int x10)] → M_goOdds_L78 (M_goOdds_J139 (M_goOdds_L40 (M_goOdds_J163 a1 a2) a1 a2 n40) a1 a2) a1 a2 n78 st x3 x5 x7 x8 x10 = some z → W p l e rm_M_goOdds U m args below meth c H locs 0 0 (MQ below (GQv D (mAs h) (mAs h) (WM ct h z) sz) args U 0 0 (gA (mAs h) sz)) (F0 m 78 ls []) := by
        intro n78
        induction n78 with
        | zero =>
          intro st x3 x5 x7 x8 x10 H locs ls hH hl hd
          rw [M_goOdds_L78] at hd
          cases hd
        | succ n78 ih78 =>
          intro st x3 x5 x7 x8 x10 H locs ls hH hl hd
          rw [M_goOdds_L78] at hd
          refine lv_iload (pc := 78) hx hb dX1_goOdds_78 (lv_at hl 7 rfl) ?_
          refine lv_aload_n (pc := 80) hx hb dX1_goOdds_80 rfl (lv_at hl 0 rfl) ?_
          refine mg_now (pc := 81) S hK hH dX1_goOdds_81 ?_
          refine lv_iconst (v := (0 : Int32)) (pc := 84) hx hb dX1_goOdds_84 (by decide) ?_
          obtain ⟨v11, hv11, hd⟩ := bs_bd hd
          refine ml_now (pc := 85) S hK hH hv11 dX1_goOdds_85 ?_
          refine lv_icmp_ge (pc := 86) (tgt := 139) hx hb dX1_goOdds_86 (by decide) (fun c12 => ?_) (fun c12 => ?_)
          · have hd := if_t c12 hd
            exact h139 st x3 x5 x7 x8 _ _ _ hH (lv_sub hl [0, 1, 2, 3, 4, 5, 6] rfl) hd
          · have hd := if_n c12 hd
            refine lv_lload (pc := 89) hx hb dX1_goOdds_89 (lv_at hl 6 rfl) ?_
            refine lv_aload_n (pc := 91) hx hb dX1_goOdds_91 rfl (lv_at hl 0 rfl) ?_
            refine mg_now (pc := 92) S hK hH dX1_goOdds_92 ?_
            refine lv_bipush (v := (71 : Int32)) (pc := 95) hx hb dX1_goOdds_95 (by decide) ?_
            obtain ⟨v13, hv13, hd⟩ := bs_bd hd
            refine ml_now (pc := 97) S hK hH hv13 dX1_goOdds_97 ?_
            refine lv_iload (pc := 98) hx hb dX1_goOdds_98 (lv_at hl 7 rfl) ?_
            obtain ⟨v14, hv14, hd⟩ := bs_bd hd
            refine call_M_has (pc := 100) S hl q1075 hv14 ⟨Nat.le_of_ble_eq_true rfl, Nat.le_of_ble_eq_true rfl⟩ (Nat.le_of_ble_eq_true rfl) dX1_goOdds_100 ⟨Nat.zero_le _, Nat.zero_le _⟩ ?_
            refine lv_if_ne (pc := 103) (tgt := 110) hx hb dX1_goOdds_103 (by decide) (fun c15 => ?_) (fun c15 => ?_)
            · have hd := if_n c15 hd
              refine lv_iload (pc := 110) hx hb dX1_goOdds_110 (lv_at hl 5 rfl) ?_
              refine lv_iload (pc := 112) hx hb dX1_goOdds_112 (lv_at hl 7 rfl) ?_
              obtain ⟨v16, hv16, hd⟩ := bs_bd hd
              refine call_M_has (pc := 114) S hl q1075 hv16 ⟨Nat.le_of_ble_eq_true rfl, Nat.le_of_ble_eq_true rfl⟩ (Nat.le_of_ble_eq_true rfl) dX1_goOdds_114 ⟨Nat.zero_le _, Nat.zero_le _⟩ ?_
              refine lv_if_eq (pc := 117) (tgt := 128) hx hb dX1_goOdds_117 (by decide) (fun c17 => ?_) (fun c17 => ?_)
              · have hd := if_t c17 hd
                refine lv_iload_n (pc := 128) hx hb dX1_goOdds_128 rfl (lv_at hl 2 rfl) ?_
                refine lv_i2l (pc := 129) hx hb dX1_goOdds_129 rfl ?_
                refine lv_lmul (pc := 130) hx hb dX1_goOdds_130 ?_
                obtain ⟨w18, ew18, hd⟩ := bs_let_spec hd
                refine lv_topEl (pc := 131) ew18 ?_
                refine lv_lstore (pc := 131) (lv' := [(8, .long w18), (0, .ref (h 0)), (1, .int a1), (2, .int a2), (3, .long x3), (5, .long x5), (7, .int x7), (10, .int x10)]) hx hb dX1_goOdds_131 hl (by decide) rfl (fun ls hl => ?_)
                obtain ⟨w19, ew19, hd⟩ := bs_let_spec hd
                refine lv_iinc (pc := 133) (v := w19) (lv' := [(10, .int w19), (8, .long w18), (0, .ref (h 0)), (1, .int a1), (2, .int a2), (3, .long x3), (5, .long x5), (7, .int x7)]) hx hb dX1_goOdds_133 hl (k := 7) rfl (by rw [ew19]; rfl) (by decide) rfl (fun ls hl => ?_)
                refine lv_goto (pc := 136) (tgt := 78) hx hb dX1_goOdds_136 (by decide) ?_
                exact ih78 st x3 x5 x7 w18 w19 _ _ _ hH (lv_sub hl [2, 3, 4, 5, 6, 7, 1, 0] rfl) hd
              · have hd := if_n c17 hd
                refine lv_bipush (v := (12 : Int32)) (pc := 120) hx hb dX1_goOdds_120 (by decide) ?_
                refine lv_iload_n (pc := 122) hx hb dX1_goOdds_122 rfl (lv_at hl 2 rfl) ?_
                refine lv_isub (pc := 123) hx hb dX1_goOdds_123 ?_
                refine lv_i2l (pc := 124) hx hb dX1_goOdds_124 rfl ?_
                refine lv_goto (pc := 125) (tgt := 130) hx hb dX1_goOdds_125 (by decide) ?_
                refine lv_lmul (pc := 130) hx hb dX1_goOdds_130 ?_
                obtain ⟨w20, ew20, hd⟩ := bs_let_spec hd
                refine lv_topEl (pc := 131) ew20 ?_
                refine lv_lstore (pc := 131) (lv' := [(8, .long w20), (0, .ref (h 0)), (1, .int a1), (2, .int a2), (3, .long x3), (5, .long x5), (7, .int x7), (10, .int x10)]) hx hb dX1_goOdds_131 hl (by decide) rfl (fun ls hl => ?_)
                obtain ⟨w21, ew21, hd⟩ := bs_let_spec hd
                refine lv_iinc (pc := 133) (v := w21) (lv' := [(10, .int w21), (8, .long w20), (0, .ref (h 0)), (1, .int a1), (2, .int a2), (3, .long x3), (5, .long x5), (7, .int x7)]) hx hb dX1_goOdds_133 hl (k := 7) rfl (by rw [ew21]; rfl) (by decide) rfl (fun ls hl => ?_)
                refine lv_goto (pc := 136) (tgt := 78) hx hb dX1_goOdds_136 (by decide) ?_
                exact ih78 st x3 x5 x7 w20 w21 _ _ _ hH (lv_sub hl [2, 3, 4, 5, 6, 7, 1, 0] rfl) hd
            · have hd := if_t c15 hd
              refine lv_lconst (v := (1 : Int64)) (pc := 106) hx hb dX1_goOdds_106 (by decide) ?_
              refine lv_goto (pc := 107) (tgt := 130) hx hb dX1_goOdds_107 (by decide) ?_
              refine lv_lmul (pc := 130) hx hb dX1_goOdds_130 ?_
              obtain ⟨w22, ew22, hd⟩ := bs_let_spec hd
              refine lv_topEl (pc := 131) ew22 ?_
              refine lv_lstore (pc := 131) (lv' := [(8, .long w22), (0, .ref (h 0)), (1, .int a1), (2, .int a2), (3, .long x3), (5, .long x5), (7, .int x7), (10, .int x10)]) hx hb dX1_goOdds_131 hl (by decide) rfl (fun ls hl => ?_)
              obtain ⟨w23, ew23, hd⟩ := bs_let_spec hd
              refine lv_iinc (pc := 133) (v := w23) (lv' := [(10, .int w23), (8, .long w22), (0, .ref (h 0)), (1, .int a1), (2, .int a2), (3, .long x3), (5, .long x5), (7, .int x7)]) hx hb dX1_goOdds_133 hl (k := 7) rfl (by rw [ew23]; rfl) (by decide) rfl (fun ls hl => ?_)
              refine lv_goto (pc := 136) (tgt := 78) hx hb dX1_goOdds_136 (by decide) ?_
              exact ih78 st x3 x5 x7 w22 w23 _ _ _ hH (lv_sub hl [2, 3, 4, 5, 6, 7, 1, 0] rfl) hd
      intro st x3 x5 x7 H locs ls hH hl hd
      rw [M_goOdds_L40] at hd
      refine lv_iload (pc := 40) hx hb dX1_goOdds_40 (lv_at hl 5 rfl) ?_
      refine lv_iconst (v := (1 : Int32)) (pc := 42) hx hb dX1_goOdds_42 (by decide) ?_
      refine lv_aload_n (pc := 43) hx hb dX1_goOdds_43 rfl (lv_at hl 0 rfl) ?_
      refine mg_now (pc := 44) S hK hH dX1_goOdds_44 ?_
      refine lv_iconst (v := (0 : Int32)) (pc := 47) hx hb dX1_goOdds_47 (by decide) ?_
      obtain ⟨v6, hv6, hd⟩ := bs_bd hd
      refine ml_now (pc := 48) S hK hH hv6 dX1_goOdds_48 ?_
      refine lv_ishl (pc := 49) hx hb dX1_goOdds_49 ?_
      refine lv_icmp_ge (pc := 50) (tgt := 163) hx hb dX1_goOdds_50 (by decide) (fun c7 => ?_) (fun c7 => ?_)
      · have hd := if_t c7 hd
        exact h163 st x3 x5 _ _ _ hH (lv_sub hl [0, 1, 2, 3, 4] rfl) hd
      · have hd := if_n c7 hd
        refine lv_iload (pc := 53) hx hb dX1_goOdds_53 (lv_at hl 5 rfl) ?_
        refine lv_aload_n (pc := 55) hx hb dX1_goOdds_55 rfl (lv_at hl 0 rfl) ?_
        refine mg_now (pc := 56) S hK hH dX1_goOdds_56 ?_
        refine lv_bipush (v := (71 : Int32)) (pc := 59) hx hb dX1_goOdds_59 (by decide) ?_
        obtain ⟨v8, hv8, hd⟩ := bs_bd hd
        refine ml_now (pc := 61) S hK hH hv8 dX1_goOdds_61 ?_
        refine lv_iconst (v := (-1 : Int32)) (pc := 62) hx hb dX1_goOdds_62 (by decide) ?_
        refine lv_ixor (pc := 63) hx hb dX1_goOdds_63 ?_
        refine lv_iand (pc := 64) hx hb dX1_goOdds_64 ?_
        refine lv_if_ne (pc := 65) (tgt := 72) hx hb dX1_goOdds_65 (by decide) (fun c9 => ?_) (fun c9 => ?_)
        · have hd := if_n c9 hd
          refine lv_lconst (v := (0 : Int64)) (pc := 72) hx hb dX1_goOdds_72 (by decide) ?_
          refine lv_lstore (pc := 73) (lv' := [(8, .long (0 : Int64)), (0, .ref (h 0)), (1, .int a1), (2, .int a2), (3, .long x3), (5, .long x5), (7, .int x7)]) hx hb dX1_goOdds_73 hl (by decide) rfl (fun ls hl => ?_)
          refine lv_iconst (v := (0 : Int32)) (pc := 75) hx hb dX1_goOdds_75 (by decide) ?_
          refine lv_istore (pc := 76) (lv' := [(10, .int (0 : Int32)), (8, .long (0 : Int64)), (0, .ref (h 0)), (1, .int a1), (2, .int a2), (3, .long x3), (5, .long x5), (7, .int x7)]) hx hb dX1_goOdds_76 hl (by decide) rfl (fun ls hl => ?_)
          exact h78 bs_fu st x3 x5 x7 (0 : Int64) (0 : Int32) _ _ _ hH (lv_sub hl [2, 3, 4, 5, 6, 7, 1, 0] rfl) hd
        · have hd := if_t c9 hd
          refine lv_lconst (v := (1 : Int64)) (pc := 68) hx hb dX1_goOdds_68 (by decide) ?_
          refine lv_goto (pc := 69) (tgt := 73) hx hb dX1_goOdds_69 (by decide) ?_
          refine lv_lstore (pc := 73) (lv' := [(8, .long (1 : Int64)), (0, .ref (h 0)), (1, .int a1), (2, .int a2), (3, .long x3), (5, .long x5), (7, .int x7)]) hx hb dX1_goOdds_73 hl (by decide) rfl (fun ls hl => ?_)
          refine lv_iconst (v := (0 : Int32)) (pc := 75) hx hb dX1_goOdds_75 (by decide) ?_
          refine lv_istore (pc := 76) (lv' := [(10, .int (0 : Int32)), (8, .long (1 : Int64)), (0, .ref (h 0)), (1, .int a1), (2, .int a2), (3, .long x3), (5, .long x5), (7, .int x7)]) hx hb dX1_goOdds_76 hl (by decide) rfl (fun ls hl => ?_)
          exact h78 bs_fu st x3 x5 x7 (1 : Int64) (0 : Int32) _ _ _ hH (lv_sub hl [2, 3, 4, 5, 6, 7, 1, 0] rfl) hd
  have h8 : ∀ (n8 : Nat) (st : MS) (x3 : Int64) (x5 : Int64) (x7 : Int32) (H : Heap) (locs : List Loc) (ls : Array Slot), GH D (gA (mAs h) sz) (mAs h) U.heap (WM ct h st) H locs → lv_has ls 11 [(0, .ref (h 0)), (1, .int a1), (2, .int a2), (3, .long x3), (5, .long x5), (7, .int x7)] → M_goOdds_L8 (M_goOdds_L40 (M_goOdds_J163 a1 a2) a1 a2 bs_fu) a1 a2 n8 st x3 x5 x7 = some z → W p l e rm_M_goOdds U m args below meth c H locs 0 0 (MQ below (GQv D (mAs h) (mAs h) (WM ct h z) sz) args U 0 0 (gA (mAs h) sz)) (F0 m 8 ls []) := by
    intro n8
    induction n8 with
    | zero =>
      intro st x3 x5 x7 H locs ls hH hl hd
      rw [M_goOdds_L8] at hd
      cases hd
    | succ n8 ih8 =>
      intro st x3 x5 x7 H locs ls hH hl hd
      rw [M_goOdds_L8] at hd
      refine lv_iload (pc := 8) hx hb dX1_goOdds_8 (lv_at hl 5 rfl) ?_
      refine lv_aload_n (pc := 10) hx hb dX1_goOdds_10 rfl (lv_at hl 0 rfl) ?_
      refine mg_now (pc := 11) S hK hH dX1_goOdds_11 ?_
      refine lv_bipush (v := (71 : Int32)) (pc := 14) hx hb dX1_goOdds_14 (by decide) ?_
      obtain ⟨v1, hv1, hd⟩ := bs_bd hd
      refine ml_now (pc := 16) S hK hH hv1 dX1_goOdds_16 ?_
      obtain ⟨v2, hv2, hd⟩ := bs_bd hd
      refine call_M_bits (pc := 17) S hl q1158 hv2 ⟨Nat.le_of_ble_eq_true rfl, Nat.le_of_ble_eq_true rfl⟩ (Nat.le_of_ble_eq_true rfl) dX1_goOdds_17 ⟨Nat.zero_le _, Nat.zero_le _⟩ ?_
      refine lv_icmp_ge (pc := 20) (tgt := 37) hx hb dX1_goOdds_20 (by decide) (fun c3 => ?_) (fun c3 => ?_)
      · have hd := if_t c3 hd
        refine lv_iconst (v := (0 : Int32)) (pc := 37) hx hb dX1_goOdds_37 (by decide) ?_
        refine lv_istore (pc := 38) (lv' := [(7, .int (0 : Int32)), (0, .ref (h 0)), (1, .int a1), (2, .int a2), (3, .long x3), (5, .long x5)]) hx hb dX1_goOdds_38 hl (by decide) rfl (fun ls hl => ?_)
        exact h40 bs_fu st x3 x5 (0 : Int32) _ _ _ hH (lv_sub hl [1, 2, 3, 4, 5, 0] rfl) hd
      · have hd := if_n c3 hd
        refine lv_lload (pc := 23) hx hb dX1_goOdds_23 (lv_at hl 4 rfl) ?_
        refine lv_ldc2 (pc := 25) (own := RX1) (v := (12 : Int64)) hx hb S.2.2.2.1 (S.2.2.2.2 _ q1277) dX1_goOdds_25 ?_
        refine lv_lmul (pc := 28) hx hb dX1_goOdds_28 ?_
        obtain ⟨w4, ew4, hd⟩ := bs_let_spec hd
        refine lv_topEl (pc := 29) ew4 ?_
        refine lv_lstore (pc := 29) (lv' := [(5, .long w4), (0, .ref (h 0)), (1, .int a1), (2, .int a2), (3, .long x3), (7, .int x7)]) hx hb dX1_goOdds_29 hl (by decide) rfl (fun ls hl => ?_)
        obtain ⟨w5, ew5, hd⟩ := bs_let_spec hd
        refine lv_iinc (pc := 31) (v := w5) (lv' := [(7, .int w5), (5, .long w4), (0, .ref (h 0)), (1, .int a1), (2, .int a2), (3, .long x3)]) hx hb dX1_goOdds_31 hl (k := 5) rfl (by rw [ew5]; rfl) (by decide) rfl (fun ls hl => ?_)
        refine lv_goto (pc := 34) (tgt := 8) hx hb dX1_goOdds_34 (by decide) ?_
        exact ih8 st x3 w4 w5 _ _ _ hH (lv_sub hl [2, 3, 4, 5, 1, 0] rfl) hd
  unfold M_goOdds at hd
  refine lv_lconst (v := (0 : Int64)) (pc := 0) hx hb dX1_goOdds_0 (by decide) ?_
  refine lv_lstore_n (pc := 1) (lv' := [(3, .long (0 : Int64)), (0, .ref (h 0)), (1, .int a1), (2, .int a2)]) hx hb dX1_goOdds_1 rfl hl (by decide) rfl (fun ls hl => ?_)
  refine lv_lconst (v := (1 : Int64)) (pc := 2) hx hb dX1_goOdds_2 (by decide) ?_
  refine lv_lstore (pc := 3) (lv' := [(5, .long (1 : Int64)), (3, .long (0 : Int64)), (0, .ref (h 0)), (1, .int a1), (2, .int a2)]) hx hb dX1_goOdds_3 hl (by decide) rfl (fun ls hl => ?_)
  refine lv_iconst (v := (0 : Int32)) (pc := 5) hx hb dX1_goOdds_5 (by decide) ?_
  refine lv_istore (pc := 6) (lv' := [(7, .int (0 : Int32)), (5, .long (1 : Int64)), (3, .long (0 : Int64)), (0, .ref (h 0)), (1, .int a1), (2, .int a2)]) hx hb dX1_goOdds_6 hl (by decide) rfl (fun ls hl => ?_)
  exact h8 bs_fu st (0 : Int64) (1 : Int64) (0 : Int32) _ _ _ hH (lv_sub hl [3, 4, 5, 2, 1, 0] rfl) hd
section CR_M_goOdds
variable {p : Program} {l : Launch} {e : Env} {R : Room} {s : State} {m : MethodId} {args : Array Value} {below : List Frame} {meth : Method} {c : Code} {H : Heap} {locs : List Loc} {cells slots : Nat} {Q : State → Prop}
variable {cc : ByteArray} {pc nL idx : Nat} {ls : Array Slot} {rest : List Value} {lv : List (Nat × Value)} {A : Nat → Prop} {H0 : Heap} {own : String}
theorem call_M_goOdds {D : va_G} {ct : Nat → ClassId} {h : Nat → Nat} {st : MS} {a1 : Int32} {a2 : Int32} {z : MS} (S : CallFix p m c cc nL s args lw_all own) (hl : lv_has ls nL lv) (hK : va_K D clA (tysG ct) s) (hH : GH D A (mAs h) H0 (WM ct h st) H locs) (hlk : Cond.methodLink own idx yX1_goOdds ∈ lw_all) (hv : M_goOdds st a1 a2 = some z) (hR : 6 ≤ R.frames ∧ 151 ≤ R.locals) (hsum : (rest.map fun v => v.category).sum ≤ 8) (hdg : decode cc pc = .ok (.invokevirtual idx, 3)) (hf : cells ≤ R.cells ∧ slots ≤ R.slots)
    (k : ∀ (H1 : Heap) (locs1 : List Loc), GH D A (mAs h) H0 (WM ct h z) H1 locs1 → W p l e R s m args below meth c H1 locs1 cells slots Q (F0 m (pc + 3) ls (rest))) : W p l e R s m args below meth c H locs cells slots Q (F0 m pc ls (.int a2 :: .int a1 :: .ref (h 0) :: rest)) :=
  g_callv (av := [.int a1, .int a2]) S hl gE_0_ok trivial hK hH (met_M_goOdds l D ct h H.size st a1 a2 z hv) (lw_V hlk q1280 qs64 q70 q1281) rfl rfl ⟨rfl, by decide, by decide, by show (parseMethodDescriptor yX1_goOdds.desc).map (fun d => d.parameters.length) = some 2; decide +kernel⟩ hR (m_recv hK hH) (fun _ h => Or.inl h) rfl hsum hdg hf k
end CR_M_goOdds
/-! CapCouncilModel.odds (II)I -/
def M_odds (st : MS) (a1 : Int32) (a2 : Int32) : Option (MS × Int32) :=
  (M_isBed st a1).bind fun v1 =>
  if v1 = 0 then
    (some (st, (-1 : Int32)))
  else
    ((M_in (a2.toInt64) (0 : Int64) (12 : Int64)).bind fun v3 =>
    if v3 = 0 then
      (some (st, (-1 : Int32)))
    else
      ((M_goOdds st ((1 : Int32) <<< (a1 &&& 31)) a2).bind fun q5 =>
      some (q5, (1 : Int32))))
def rm_M_odds : Room := { frames := 6, cells := 0, slots := 0, locals := 151 }
set_option maxHeartbeats 4000000 in
set_option maxRecDepth 100000 in
theorem met_M_odds (l : Launch) (D : va_G) (ct : Nat → ClassId) (h : Nat → Nat) (sz : Nat) (st : MS) (a1 : Int32) (a2 : Int32) (z : (MS × Int32)) (hd : M_odds st a1 a2 = some z) : Met l yX1_odds (ws_ yX1_odds cX1_odds 3 (some .int)) rm_M_odds (GPre gE_0 D ct (mAs h) (WM ct h st) sz [.ref (h 0), .int a1, .int a2]) (GQi D (mAs h) (mAs h) (WM ct h z.1) sz z.2) 0 0 (gA (mAs h) sz) := by
  refine g_met (cc := cX1_odds) (maxL := 3) (ret := (some .int)) (by decide) (Nat.le_of_ble_eq_true rfl) ?_
  intro p e U m args below meth c ls S hr hlk hK hH hE hsz hl
  have S : CallFix p m c cX1_odds 3 U args lw_all RX1 := S
  have hx := S.1
  have hb := S.2.1
  have hl : lv_has ls 3 [(0, .ref (h 0)), (1, .int a1), (2, .int a2)] := hl
  unfold M_odds at hd
  refine lv_aload_n (pc := 0) hx hb dX1_odds_0 rfl (lv_at hl 0 rfl) ?_
  refine lv_iload_n (pc := 1) hx hb dX1_odds_1 rfl (lv_at hl 1 rfl) ?_
  obtain ⟨v1, hv1, hd⟩ := bs_bd hd
  refine call_M_isBed (pc := 2) S hl hK hH q1103 hv1 ⟨Nat.le_of_ble_eq_true rfl, Nat.le_of_ble_eq_true rfl⟩ (Nat.le_of_ble_eq_true rfl) dX1_odds_2 ⟨Nat.zero_le _, Nat.zero_le _⟩ ?_
  refine lv_if_eq (pc := 5) (tgt := 20) hx hb dX1_odds_5 (by decide) (fun c2 => ?_) (fun c2 => ?_)
  · have hd := if_t c2 hd
    refine lv_iconst (v := (-1 : Int32)) (pc := 20) hx hb dX1_odds_20 (by decide) ?_
    exact g_iret (WM ct h) hd S hr hlk hH dX1_odds_21
  · have hd := if_n c2 hd
    refine lv_iload_n (pc := 8) hx hb dX1_odds_8 rfl (lv_at hl 2 rfl) ?_
    refine lv_i2l (pc := 9) hx hb dX1_odds_9 rfl ?_
    refine lv_lconst (v := (0 : Int64)) (pc := 10) hx hb dX1_odds_10 (by decide) ?_
    refine lv_ldc2 (pc := 11) (own := RX1) (v := (12 : Int64)) hx hb S.2.2.2.1 (S.2.2.2.2 _ q1277) dX1_odds_11 ?_
    obtain ⟨v3, hv3, hd⟩ := bs_bd hd
    refine call_M_in (pc := 14) S hl q974 hv3 ⟨Nat.le_of_ble_eq_true rfl, Nat.le_of_ble_eq_true rfl⟩ (Nat.le_of_ble_eq_true rfl) dX1_odds_14 ⟨Nat.zero_le _, Nat.zero_le _⟩ ?_
    refine lv_if_ne (pc := 17) (tgt := 22) hx hb dX1_odds_17 (by decide) (fun c4 => ?_) (fun c4 => ?_)
    · have hd := if_n c4 hd
      refine lv_aload_n (pc := 22) hx hb dX1_odds_22 rfl (lv_at hl 0 rfl) ?_
      refine lv_iconst (v := (1 : Int32)) (pc := 23) hx hb dX1_odds_23 (by decide) ?_
      refine lv_iload_n (pc := 24) hx hb dX1_odds_24 rfl (lv_at hl 1 rfl) ?_
      refine lv_ishl (pc := 25) hx hb dX1_odds_25 ?_
      refine lv_iload_n (pc := 26) hx hb dX1_odds_26 rfl (lv_at hl 2 rfl) ?_
      obtain ⟨q5, hq5, hd⟩ := bs_bd hd
      refine call_M_goOdds (pc := 27) S hl hK hH q1278 hq5 ⟨Nat.le_of_ble_eq_true rfl, Nat.le_of_ble_eq_true rfl⟩ (Nat.le_of_ble_eq_true rfl) dX1_odds_27 ⟨Nat.zero_le _, Nat.zero_le _⟩ (fun H locs hH => ?_)
      refine lv_iconst (v := (1 : Int32)) (pc := 30) hx hb dX1_odds_30 (by decide) ?_
      exact g_iret (WM ct h) hd S hr hlk hH dX1_odds_31
    · have hd := if_t c4 hd
      refine lv_iconst (v := (-1 : Int32)) (pc := 20) hx hb dX1_odds_20 (by decide) ?_
      exact g_iret (WM ct h) hd S hr hlk hH dX1_odds_21
section CR_M_odds
variable {p : Program} {l : Launch} {e : Env} {R : Room} {s : State} {m : MethodId} {args : Array Value} {below : List Frame} {meth : Method} {c : Code} {H : Heap} {locs : List Loc} {cells slots : Nat} {Q : State → Prop}
variable {cc : ByteArray} {pc nL idx : Nat} {ls : Array Slot} {rest : List Value} {lv : List (Nat × Value)} {A : Nat → Prop} {H0 : Heap} {own : String}
theorem call_M_odds {D : va_G} {ct : Nat → ClassId} {h : Nat → Nat} {st : MS} {a1 : Int32} {a2 : Int32} {z : (MS × Int32)} (S : CallFix p m c cc nL s args lw_all own) (hl : lv_has ls nL lv) (hK : va_K D clA (tysG ct) s) (hH : GH D A (mAs h) H0 (WM ct h st) H locs) (hlk : Cond.methodLink own idx yX1_odds ∈ lw_all) (hv : M_odds st a1 a2 = some z) (hR : 7 ≤ R.frames ∧ 173 ≤ R.locals) (hsum : (rest.map fun v => v.category).sum ≤ 8) (hdg : decode cc pc = .ok (.invokevirtual idx, 3)) (hf : cells ≤ R.cells ∧ slots ≤ R.slots)
    (k : ∀ (H1 : Heap) (locs1 : List Loc), GH D A (mAs h) H0 (WM ct h z.1) H1 locs1 → W p l e R s m args below meth c H1 locs1 cells slots Q (F0 m (pc + 3) ls (.int z.2 :: rest))) : W p l e R s m args below meth c H locs cells slots Q (F0 m pc ls (.int a2 :: .int a1 :: .ref (h 0) :: rest)) :=
  g_calli (av := [.int a1, .int a2]) S hl gE_0_ok trivial hK hH (met_M_odds l D ct h H.size st a1 a2 z hv) (lw_V hlk q1274 q1275 q70 q1276) rfl rfl ⟨rfl, by decide, by decide, by show (parseMethodDescriptor yX1_odds.desc).map (fun d => d.parameters.length) = some 2; decide +kernel⟩ hR (m_recv hK hH) (fun _ h => Or.inl h) rfl hsum hdg hf k
end CR_M_odds
/-! CapCouncilModel.mid (I)I -/
def M_mid (st : MS) (a1 : Int32) : Option (MS × Int32) :=
  (M_in (a1.toInt64) (0 : Int64) (12 : Int64)).bind fun v1 =>
  if v1 = 0 then
    (some (st, (-1 : Int32)))
  else
    ((bs_ld (ma st 0) 84 (0 : Int32)).bind fun v3 =>
    if v3 = 0 then
      (some (st, (-4 : Int32)))
    else
      ((bs_ld (ma st 0) 84 (1 : Int32)).bind fun v5 =>
      (M_goOdds st (((1 : Int32) <<< (v5 &&& 31)) - (1 : Int32)) a1).bind fun q6 =>
      some (q6, (1 : Int32))))
def rm_M_mid : Room := { frames := 6, cells := 0, slots := 0, locals := 151 }
set_option maxHeartbeats 4000000 in
set_option maxRecDepth 100000 in
theorem met_M_mid (l : Launch) (D : va_G) (ct : Nat → ClassId) (h : Nat → Nat) (sz : Nat) (st : MS) (a1 : Int32) (z : (MS × Int32)) (hd : M_mid st a1 = some z) : Met l yX1_mid (ws_ yX1_mid cX1_mid 2 (some .int)) rm_M_mid (GPre gE_0 D ct (mAs h) (WM ct h st) sz [.ref (h 0), .int a1]) (GQi D (mAs h) (mAs h) (WM ct h z.1) sz z.2) 0 0 (gA (mAs h) sz) := by
  refine g_met (cc := cX1_mid) (maxL := 2) (ret := (some .int)) (by decide) (Nat.le_of_ble_eq_true rfl) ?_
  intro p e U m args below meth c ls S hr hlk hK hH hE hsz hl
  have S : CallFix p m c cX1_mid 2 U args lw_all RX1 := S
  have hx := S.1
  have hb := S.2.1
  have hl : lv_has ls 2 [(0, .ref (h 0)), (1, .int a1)] := hl
  unfold M_mid at hd
  refine lv_iload_n (pc := 0) hx hb dX1_mid_0 rfl (lv_at hl 1 rfl) ?_
  refine lv_i2l (pc := 1) hx hb dX1_mid_1 rfl ?_
  refine lv_lconst (v := (0 : Int64)) (pc := 2) hx hb dX1_mid_2 (by decide) ?_
  refine lv_ldc2 (pc := 3) (own := RX1) (v := (12 : Int64)) hx hb S.2.2.2.1 (S.2.2.2.2 _ q1277) dX1_mid_3 ?_
  obtain ⟨v1, hv1, hd⟩ := bs_bd hd
  refine call_M_in (pc := 6) S hl q974 hv1 ⟨Nat.le_of_ble_eq_true rfl, Nat.le_of_ble_eq_true rfl⟩ (Nat.le_of_ble_eq_true rfl) dX1_mid_6 ⟨Nat.zero_le _, Nat.zero_le _⟩ ?_
  refine lv_if_ne (pc := 9) (tgt := 14) hx hb dX1_mid_9 (by decide) (fun c2 => ?_) (fun c2 => ?_)
  · have hd := if_n c2 hd
    refine lv_aload_n (pc := 14) hx hb dX1_mid_14 rfl (lv_at hl 0 rfl) ?_
    refine mg_now (pc := 15) S hK hH dX1_mid_15 ?_
    refine lv_iconst (v := (0 : Int32)) (pc := 18) hx hb dX1_mid_18 (by decide) ?_
    obtain ⟨v3, hv3, hd⟩ := bs_bd hd
    refine ml_now (pc := 19) S hK hH hv3 dX1_mid_19 ?_
    refine lv_if_ne (pc := 20) (tgt := 26) hx hb dX1_mid_20 (by decide) (fun c4 => ?_) (fun c4 => ?_)
    · have hd := if_n c4 hd
      refine lv_aload_n (pc := 26) hx hb dX1_mid_26 rfl (lv_at hl 0 rfl) ?_
      refine lv_iconst (v := (1 : Int32)) (pc := 27) hx hb dX1_mid_27 (by decide) ?_
      refine lv_aload_n (pc := 28) hx hb dX1_mid_28 rfl (lv_at hl 0 rfl) ?_
      refine mg_now (pc := 29) S hK hH dX1_mid_29 ?_
      refine lv_iconst (v := (1 : Int32)) (pc := 32) hx hb dX1_mid_32 (by decide) ?_
      obtain ⟨v5, hv5, hd⟩ := bs_bd hd
      refine ml_now (pc := 33) S hK hH hv5 dX1_mid_33 ?_
      refine lv_ishl (pc := 34) hx hb dX1_mid_34 ?_
      refine lv_iconst (v := (1 : Int32)) (pc := 35) hx hb dX1_mid_35 (by decide) ?_
      refine lv_isub (pc := 36) hx hb dX1_mid_36 ?_
      refine lv_iload_n (pc := 37) hx hb dX1_mid_37 rfl (lv_at hl 1 rfl) ?_
      obtain ⟨q6, hq6, hd⟩ := bs_bd hd
      refine call_M_goOdds (pc := 38) S hl hK hH q1278 hq6 ⟨Nat.le_of_ble_eq_true rfl, Nat.le_of_ble_eq_true rfl⟩ (Nat.le_of_ble_eq_true rfl) dX1_mid_38 ⟨Nat.zero_le _, Nat.zero_le _⟩ (fun H locs hH => ?_)
      refine lv_iconst (v := (1 : Int32)) (pc := 41) hx hb dX1_mid_41 (by decide) ?_
      exact g_iret (WM ct h) hd S hr hlk hH dX1_mid_42
    · have hd := if_t c4 hd
      refine lv_bipush (v := (-4 : Int32)) (pc := 23) hx hb dX1_mid_23 (by decide) ?_
      exact g_iret (WM ct h) hd S hr hlk hH dX1_mid_25
  · have hd := if_t c2 hd
    refine lv_iconst (v := (-1 : Int32)) (pc := 12) hx hb dX1_mid_12 (by decide) ?_
    exact g_iret (WM ct h) hd S hr hlk hH dX1_mid_13
section CR_M_mid
variable {p : Program} {l : Launch} {e : Env} {R : Room} {s : State} {m : MethodId} {args : Array Value} {below : List Frame} {meth : Method} {c : Code} {H : Heap} {locs : List Loc} {cells slots : Nat} {Q : State → Prop}
variable {cc : ByteArray} {pc nL idx : Nat} {ls : Array Slot} {rest : List Value} {lv : List (Nat × Value)} {A : Nat → Prop} {H0 : Heap} {own : String}
theorem call_M_mid {D : va_G} {ct : Nat → ClassId} {h : Nat → Nat} {st : MS} {a1 : Int32} {z : (MS × Int32)} (S : CallFix p m c cc nL s args lw_all own) (hl : lv_has ls nL lv) (hK : va_K D clA (tysG ct) s) (hH : GH D A (mAs h) H0 (WM ct h st) H locs) (hlk : Cond.methodLink own idx yX1_mid ∈ lw_all) (hv : M_mid st a1 = some z) (hR : 7 ≤ R.frames ∧ 172 ≤ R.locals) (hsum : (rest.map fun v => v.category).sum ≤ 8) (hdg : decode cc pc = .ok (.invokevirtual idx, 3)) (hf : cells ≤ R.cells ∧ slots ≤ R.slots)
    (k : ∀ (H1 : Heap) (locs1 : List Loc), GH D A (mAs h) H0 (WM ct h z.1) H1 locs1 → W p l e R s m args below meth c H1 locs1 cells slots Q (F0 m (pc + 3) ls (.int z.2 :: rest))) : W p l e R s m args below meth c H locs cells slots Q (F0 m pc ls (.int a1 :: .ref (h 0) :: rest)) :=
  g_calli (av := [.int a1]) S hl gE_0_ok trivial hK hH (met_M_mid l D ct h H.size st a1 z hv) (lw_V hlk q1287 q1288 q70 q1289) rfl rfl ⟨rfl, by decide, by decide, by show (parseMethodDescriptor yX1_mid.desc).map (fun d => d.parameters.length) = some 1; decide +kernel⟩ hR (m_recv hK hH) (fun _ h => Or.inl h) rfl hsum hdg hf k
end CR_M_mid
/-! CapCouncilModel.lots (II)I -/
def M_lots_J130 (k61 : MS → Int64 → Int32 → Option (MS × Int32)) (a1 : Int32) (a2 : Int32) (st : MS) (x3 : Int64) (x5 : Int32) (y0 : Int32) (y1 : Int32) : Option (MS × Int32) :=
  (M_does st (y1 + y0)).bind fun q29 =>
  bs_let (x5 + (1 : Int32)) fun w30 =>
  k61 q29 x3 w30
def M_lots_J167 (k61 : MS → Int64 → Int32 → Option (MS × Int32)) (a1 : Int32) (a2 : Int32) (st : MS) (x3 : Int64) (x5 : Int32) : Option (MS × Int32) :=
  (bs_ld (ma st 0) 84 (1 : Int32)).bind fun v25 =>
  bs_nzl (v25.toInt64) <|
  (M_does st (((1000 : Int32) + ((100 : Int32) * ((((x3 / (8 : Int64)) - (x3 / (8 : Int64)) / (v25.toInt64) * (v25.toInt64))).toInt32))) + ((((x3 / (64 : Int64)) - (x3 / (64 : Int64)) / (100 : Int64) * (100 : Int64))).toInt32))).bind fun q27 =>
  bs_let (x5 + (1 : Int32)) fun w28 =>
  k61 q27 x3 w28
def M_lots_L61 (k209 : MS → Option (MS × Int32)) (a1 : Int32) (a2 : Int32) : Nat → MS → Int64 → Int32 → Option (MS × Int32)
  | 0, _, _, _ => none
  | n + 1, st, x3, x5 =>
    if a1 ≤ x5 then
      (k209 st)
    else
      (bs_let ((x3 * (48271 : Int64)) - (x3 * (48271 : Int64)) / (2147483647 : Int64) * (2147483647 : Int64)) fun w11 =>
      (bs_ld (ma st 0) 84 (0 : Int32)).bind fun v12 =>
      bs_nzl (v12.toInt64) <|
      bs_let ((((w11 / (8 : Int64)) - (w11 / (8 : Int64)) / (v12.toInt64) * (v12.toInt64))).toInt32) fun w14 =>
      if (lg_cmp (w11 - w11 / (3 : Int64) * (3 : Int64)) (0 : Int64)) = 0 then
        ((bs_ld (ma st 0) 84 (71 : Int32)).bind fun v21 =>
        (M_has v21 w14).bind fun v22 =>
        if v22 = 0 then
          (M_lots_J130 (M_lots_L61 k209 a1 a2 n) a1 a2 st w11 x5 (3000 : Int32) w14)
        else
          (M_lots_J130 (M_lots_L61 k209 a1 a2 n) a1 a2 st w11 x5 (2000 : Int32) w14))
      else
        (if (lg_cmp (w11 - w11 / (3 : Int64) * (3 : Int64)) (1 : Int64)) = 0 then
          ((bs_ld (ma st 0) 84 (70 : Int32)).bind fun v17 =>
          if (40 : Int32) ≤ v17 then
            (M_lots_J167 (M_lots_L61 k209 a1 a2 n) a1 a2 st w11 x5)
          else
            ((M_does st (0 : Int32)).bind fun q19 =>
            bs_let (x5 + (1 : Int32)) fun w20 =>
            M_lots_L61 k209 a1 a2 n q19 w11 w20))
        else
          (M_lots_J167 (M_lots_L61 k209 a1 a2 n) a1 a2 st w11 x5)))
def M_lots_J209 (a1 : Int32) (a2 : Int32) (st : MS) : Option (MS × Int32) :=
  (M_seated st).bind fun v24 =>
  some (st, v24)
def M_lots (st : MS) (a1 : Int32) (a2 : Int32) : Option (MS × Int32) :=
  (M_in (a1.toInt64) (1 : Int64) (20 : Int64)).bind fun v1 =>
  if v1 = 0 then
    (some (st, (-1 : Int32)))
  else
    ((M_in (a2.toInt64) (1 : Int64) (2147483646 : Int64)).bind fun v3 =>
    if v3 = 0 then
      (some (st, (-1 : Int32)))
    else
      ((bs_ld (ma st 0) 84 (0 : Int32)).bind fun v5 =>
      if v5 = 0 then
        (some (st, (-4 : Int32)))
      else
        ((bs_ld (ma st 0) 84 (29 : Int32)).bind fun v7 =>
        if (v7 + a1) ≤ (40 : Int32) then
          (bs_let (a2.toInt64) fun w9 =>
          M_lots_L61 (M_lots_J209 a1 a2) a1 a2 bs_fu st w9 (0 : Int32))
        else
          (some (st, (-2 : Int32))))))
def rm_M_lots : Room := { frames := 6, cells := 0, slots := 0, locals := 141 }
set_option maxHeartbeats 4000000 in
set_option maxRecDepth 100000 in
theorem met_M_lots (l : Launch) (D : va_G) (ct : Nat → ClassId) (h : Nat → Nat) (sz : Nat) (st : MS) (a1 : Int32) (a2 : Int32) (z : (MS × Int32)) (hd : M_lots st a1 a2 = some z) : Met l yX1_lots (ws_ yX1_lots cX1_lots 7 (some .int)) rm_M_lots (GPre gE_0 D ct (mAs h) (WM ct h st) sz [.ref (h 0), .int a1, .int a2]) (GQi D (mAs h) (mAs h) (WM ct h z.1) sz z.2) 0 0 (gA (mAs h) sz) := by
  refine g_met (cc := cX1_lots) (maxL := 7) (ret := (some .int)) (by decide) (Nat.le_of_ble_eq_true rfl) ?_
  intro p e U m args below meth c ls S hr hlk hK hH hE hsz hl
  have S : CallFix p m c cX1_lots 7 U args lw_all RX1 := S
  have hx := S.1
  have hb := S.2.1
  have hl : lv_has ls 7 [(0, .ref (h 0)), (1, .int a1), (2, .int a2)] := hl
  have h209 : ∀ (st : MS) (H : Heap) (locs : List Loc) (ls : Array Slot), GH D (gA (mAs h) sz) (mAs h) U.heap (WM ct h st) H locs → lv_has ls 7 [(0, .ref (h 0)), (1, .int a1), (2, .int a2)] → M_lots_J209 a1 a2 st = some z → W p l e rm_M_lots U m args below meth c H locs 0 0 (MQ below (GQi D (mAs h) (mAs h) (WM ct h z.1) sz z.2) args U 0 0 (gA (mAs h) sz)) (F0 m 209 ls []) := by
    intro st H locs ls hH hl hd
    unfold M_lots_J209 at hd
    refine lv_aload_n (pc := 209) hx hb dX1_lots_209 rfl (lv_at hl 0 rfl) ?_
    obtain ⟨v24, hv24, hd⟩ := bs_bd hd
    refine call_M_seated (pc := 210) S hl hK hH q1150 hv24 ⟨Nat.le_of_ble_eq_true rfl, Nat.le_of_ble_eq_true rfl⟩ (Nat.le_of_ble_eq_true rfl) dX1_lots_210 ⟨Nat.zero_le _, Nat.zero_le _⟩ ?_
    exact g_iret (WM ct h) hd S hr hlk hH dX1_lots_213
  have h61 : ∀ (n61 : Nat) (st : MS) (x3 : Int64) (x5 : Int32) (H : Heap) (locs : List Loc) (ls : Array Slot), GH D (gA (mAs h) sz) (mAs h) U.heap (WM ct h st) H locs → lv_has ls 7 [(0, .ref (h 0)), (1, .int a1), (2, .int a2), (3, .long x3), (5, .int x5)] → M_lots_L61 (M_lots_J209 a1 a2) a1 a2 n61 st x3 x5 = some z → W p l e rm_M_lots U m args below meth c H locs 0 0 (MQ below (GQi D (mAs h) (mAs h) (WM ct h z.1) sz z.2) args U 0 0 (gA (mAs h) sz)) (F0 m 61 ls []) := by
    intro n61
    induction n61 with
    | zero =>
      intro st x3 x5 H locs ls hH hl hd
      rw [M_lots_L61] at hd
      cases hd
    | succ n61 ih61 =>
      have h167 : ∀ (st : MS) (x3 : Int64) (x5 : Int32) (H : Heap) (locs : List Loc) (ls : Array Slot), GH D (gA (mAs h) sz) (mAs h) U.heap (WM ct h st) H locs → lv_has ls 7 [(0, .ref (h 0)), (1, .int a1), (2, .int a2), (3, .long x3), (5, .int x5)] → M_lots_J167 (M_lots_L61 (M_lots_J209 a1 a2) a1 a2 n61) a1 a2 st x3 x5 = some z → W p l e rm_M_lots U m args below meth c H locs 0 0 (MQ below (GQi D (mAs h) (mAs h) (WM ct h z.1) sz z.2) args U 0 0 (gA (mAs h) sz)) (F0 m 167 ls []) := by
        intro st x3 x5 H locs ls hH hl hd
        unfold M_lots_J167 at hd
        refine lv_aload_n (pc := 167) hx hb dX1_lots_167 rfl (lv_at hl 0 rfl) ?_
        refine lv_sipush (v := (1000 : Int32)) (pc := 168) hx hb dX1_lots_168 (by decide) ?_
        refine lv_bipush (v := (100 : Int32)) (pc := 171) hx hb dX1_lots_171 (by decide) ?_
        refine lv_lload_n (pc := 173) hx hb dX1_lots_173 rfl (lv_at hl 3 rfl) ?_
        refine lv_ldc2 (pc := 174) (own := RX1) (v := (8 : Int64)) hx hb S.2.2.2.1 (S.2.2.2.2 _ q1298) dX1_lots_174 ?_
        refine lv_ldiv (pc := 177) hx hb dX1_lots_177 (by decide) ?_
        refine lv_aload_n (pc := 178) hx hb dX1_lots_178 rfl (lv_at hl 0 rfl) ?_
        refine mg_now (pc := 179) S hK hH dX1_lots_179 ?_
        refine lv_iconst (v := (1 : Int32)) (pc := 182) hx hb dX1_lots_182 (by decide) ?_
        obtain ⟨v25, hv25, hd⟩ := bs_bd hd
        refine ml_now (pc := 183) S hK hH hv25 dX1_lots_183 ?_
        refine lv_i2l (pc := 184) hx hb dX1_lots_184 rfl ?_
        obtain ⟨z26, hd⟩ := bs_nzl_spec hd
        refine lv_lrem (pc := 185) hx hb dX1_lots_185 z26 ?_
        refine lv_l2i (pc := 186) hx hb dX1_lots_186 rfl ?_
        refine lv_imul (pc := 187) hx hb dX1_lots_187 ?_
        refine lv_iadd (pc := 188) hx hb dX1_lots_188 ?_
        refine lv_lload_n (pc := 189) hx hb dX1_lots_189 rfl (lv_at hl 3 rfl) ?_
        refine lv_ldc2 (pc := 190) (own := RX1) (v := (64 : Int64)) hx hb S.2.2.2.1 (S.2.2.2.2 _ q1299) dX1_lots_190 ?_
        refine lv_ldiv (pc := 193) hx hb dX1_lots_193 (by decide) ?_
        refine lv_ldc2 (pc := 194) (own := RX1) (v := (100 : Int64)) hx hb S.2.2.2.1 (S.2.2.2.2 _ q1300) dX1_lots_194 ?_
        refine lv_lrem (pc := 197) hx hb dX1_lots_197 (by decide) ?_
        refine lv_l2i (pc := 198) hx hb dX1_lots_198 rfl ?_
        refine lv_iadd (pc := 199) hx hb dX1_lots_199 ?_
        obtain ⟨q27, hq27, hd⟩ := bs_bd hd
        refine call_M_does (pc := 200) S hl hK hH q1143 hq27 ⟨Nat.le_of_ble_eq_true rfl, Nat.le_of_ble_eq_true rfl⟩ (Nat.le_of_ble_eq_true rfl) dX1_lots_200 ⟨Nat.zero_le _, Nat.zero_le _⟩ (fun H locs hH => ?_)
        obtain ⟨w28, ew28, hd⟩ := bs_let_spec hd
        refine lv_iinc (pc := 203) (v := w28) (lv' := [(5, .int w28), (0, .ref (h 0)), (1, .int a1), (2, .int a2), (3, .long x3)]) hx hb dX1_lots_203 hl (k := 4) rfl (by rw [ew28]; rfl) (by decide) rfl (fun ls hl => ?_)
        refine lv_goto (pc := 206) (tgt := 61) hx hb dX1_lots_206 (by decide) ?_
        exact ih61 q27 x3 w28 _ _ _ hH (lv_sub hl [1, 2, 3, 4, 0] rfl) hd
      have h130 : ∀ (st : MS) (x3 : Int64) (x5 : Int32) (y0 : Int32) (y1 : Int32) (H : Heap) (locs : List Loc) (ls : Array Slot), GH D (gA (mAs h) sz) (mAs h) U.heap (WM ct h st) H locs → lv_has ls 7 [(0, .ref (h 0)), (1, .int a1), (2, .int a2), (3, .long x3), (5, .int x5)] → M_lots_J130 (M_lots_L61 (M_lots_J209 a1 a2) a1 a2 n61) a1 a2 st x3 x5 y0 y1 = some z → W p l e rm_M_lots U m args below meth c H locs 0 0 (MQ below (GQi D (mAs h) (mAs h) (WM ct h z.1) sz z.2) args U 0 0 (gA (mAs h) sz)) (F0 m 130 ls [.int y0, .int y1, .ref (h 0)]) := by
        intro st x3 x5 y0 y1 H locs ls hH hl hd
        unfold M_lots_J130 at hd
        refine lv_iadd (pc := 130) hx hb dX1_lots_130 ?_
        obtain ⟨q29, hq29, hd⟩ := bs_bd hd
        refine call_M_does (pc := 131) S hl hK hH q1143 hq29 ⟨Nat.le_of_ble_eq_true rfl, Nat.le_of_ble_eq_true rfl⟩ (Nat.le_of_ble_eq_true rfl) dX1_lots_131 ⟨Nat.zero_le _, Nat.zero_le _⟩ (fun H locs hH => ?_)
        refine lv_goto (pc := 134) (tgt := 203) hx hb dX1_lots_134 (by decide) ?_
        obtain ⟨w30, ew30, hd⟩ := bs_let_spec hd
        refine lv_iinc (pc := 203) (v := w30) (lv' := [(5, .int w30), (0, .ref (h 0)), (1, .int a1), (2, .int a2), (3, .long x3)]) hx hb dX1_lots_203 hl (k := 4) rfl (by rw [ew30]; rfl) (by decide) rfl (fun ls hl => ?_)
        refine lv_goto (pc := 206) (tgt := 61) hx hb dX1_lots_206 (by decide) ?_
        exact ih61 q29 x3 w30 _ _ _ hH (lv_sub hl [1, 2, 3, 4, 0] rfl) hd
      intro st x3 x5 H locs ls hH hl hd
      rw [M_lots_L61] at hd
      refine lv_iload (pc := 61) hx hb dX1_lots_61 (lv_at hl 4 rfl) ?_
      refine lv_iload_n (pc := 63) hx hb dX1_lots_63 rfl (lv_at hl 1 rfl) ?_
      refine lv_icmp_ge (pc := 64) (tgt := 209) hx hb dX1_lots_64 (by decide) (fun c10 => ?_) (fun c10 => ?_)
      · have hd := if_t c10 hd
        exact h209 st _ _ _ hH (lv_sub hl [0, 1, 2] rfl) hd
      · have hd := if_n c10 hd
        refine lv_lload_n (pc := 67) hx hb dX1_lots_67 rfl (lv_at hl 3 rfl) ?_
        refine lv_ldc2 (pc := 68) (own := RX1) (v := (48271 : Int64)) hx hb S.2.2.2.1 (S.2.2.2.2 _ q1296) dX1_lots_68 ?_
        refine lv_lmul (pc := 71) hx hb dX1_lots_71 ?_
        refine lv_ldc2 (pc := 72) (own := RX1) (v := (2147483647 : Int64)) hx hb S.2.2.2.1 (S.2.2.2.2 _ q1297) dX1_lots_72 ?_
        refine lv_lrem (pc := 75) hx hb dX1_lots_75 (by decide) ?_
        obtain ⟨w11, ew11, hd⟩ := bs_let_spec hd
        refine lv_topEl (pc := 76) ew11 ?_
        refine lv_lstore_n (pc := 76) (lv' := [(3, .long w11), (0, .ref (h 0)), (1, .int a1), (2, .int a2), (5, .int x5)]) hx hb dX1_lots_76 rfl hl (by decide) rfl (fun ls hl => ?_)
        refine lv_lload_n (pc := 77) hx hb dX1_lots_77 rfl (lv_at hl 0 rfl) ?_
        refine lv_ldc2 (pc := 78) (own := RX1) (v := (8 : Int64)) hx hb S.2.2.2.1 (S.2.2.2.2 _ q1298) dX1_lots_78 ?_
        refine lv_ldiv (pc := 81) hx hb dX1_lots_81 (by decide) ?_
        refine lv_aload_n (pc := 82) hx hb dX1_lots_82 rfl (lv_at hl 1 rfl) ?_
        refine mg_now (pc := 83) S hK hH dX1_lots_83 ?_
        refine lv_iconst (v := (0 : Int32)) (pc := 86) hx hb dX1_lots_86 (by decide) ?_
        obtain ⟨v12, hv12, hd⟩ := bs_bd hd
        refine ml_now (pc := 87) S hK hH hv12 dX1_lots_87 ?_
        refine lv_i2l (pc := 88) hx hb dX1_lots_88 rfl ?_
        obtain ⟨z13, hd⟩ := bs_nzl_spec hd
        refine lv_lrem (pc := 89) hx hb dX1_lots_89 z13 ?_
        refine lv_l2i (pc := 90) hx hb dX1_lots_90 rfl ?_
        obtain ⟨w14, ew14, hd⟩ := bs_let_spec hd
        refine lv_topE (pc := 91) ew14 ?_
        refine lv_istore (pc := 91) (lv' := [(6, .int w14), (3, .long w11), (0, .ref (h 0)), (1, .int a1), (2, .int a2), (5, .int x5)]) hx hb dX1_lots_91 hl (by decide) rfl (fun ls hl => ?_)
        refine lv_lload_n (pc := 93) hx hb dX1_lots_93 rfl (lv_at hl 1 rfl) ?_
        refine lv_ldc2 (pc := 94) (own := RX1) (v := (3 : Int64)) hx hb S.2.2.2.1 (S.2.2.2.2 _ q1013) dX1_lots_94 ?_
        refine lv_lrem (pc := 97) hx hb dX1_lots_97 (by decide) ?_
        refine lv_lconst (v := (0 : Int64)) (pc := 98) hx hb dX1_lots_98 (by decide) ?_
        refine W.lcmp (pc := 99) hx hb dX1_lots_99 ?_
        refine lv_if_ne (pc := 100) (tgt := 137) hx hb dX1_lots_100 (by decide) (fun c15 => ?_) (fun c15 => ?_)
        · have hd := if_n c15 hd
          refine lv_lload_n (pc := 137) hx hb dX1_lots_137 rfl (lv_at hl 1 rfl) ?_
          refine lv_ldc2 (pc := 138) (own := RX1) (v := (3 : Int64)) hx hb S.2.2.2.1 (S.2.2.2.2 _ q1013) dX1_lots_138 ?_
          refine lv_lrem (pc := 141) hx hb dX1_lots_141 (by decide) ?_
          refine lv_lconst (v := (1 : Int64)) (pc := 142) hx hb dX1_lots_142 (by decide) ?_
          refine W.lcmp (pc := 143) hx hb dX1_lots_143 ?_
          refine lv_if_ne (pc := 144) (tgt := 167) hx hb dX1_lots_144 (by decide) (fun c16 => ?_) (fun c16 => ?_)
          · have hd := if_n c16 hd
            exact h167 st w11 x5 _ _ _ hH (lv_sub hl [2, 3, 4, 1, 5] rfl) hd
          · have hd := if_t c16 hd
            refine lv_aload_n (pc := 147) hx hb dX1_lots_147 rfl (lv_at hl 2 rfl) ?_
            refine mg_now (pc := 148) S hK hH dX1_lots_148 ?_
            refine lv_bipush (v := (70 : Int32)) (pc := 151) hx hb dX1_lots_151 (by decide) ?_
            obtain ⟨v17, hv17, hd⟩ := bs_bd hd
            refine ml_now (pc := 153) S hK hH hv17 dX1_lots_153 ?_
            refine lv_bipush (v := (40 : Int32)) (pc := 154) hx hb dX1_lots_154 (by decide) ?_
            refine lv_icmp_ge (pc := 156) (tgt := 167) hx hb dX1_lots_156 (by decide) (fun c18 => ?_) (fun c18 => ?_)
            · have hd := if_t c18 hd
              exact h167 st w11 x5 _ _ _ hH (lv_sub hl [2, 3, 4, 1, 5] rfl) hd
            · have hd := if_n c18 hd
              refine lv_aload_n (pc := 159) hx hb dX1_lots_159 rfl (lv_at hl 2 rfl) ?_
              refine lv_iconst (v := (0 : Int32)) (pc := 160) hx hb dX1_lots_160 (by decide) ?_
              obtain ⟨q19, hq19, hd⟩ := bs_bd hd
              refine call_M_does (pc := 161) S hl hK hH q1143 hq19 ⟨Nat.le_of_ble_eq_true rfl, Nat.le_of_ble_eq_true rfl⟩ (Nat.le_of_ble_eq_true rfl) dX1_lots_161 ⟨Nat.zero_le _, Nat.zero_le _⟩ (fun H locs hH => ?_)
              refine lv_goto (pc := 164) (tgt := 203) hx hb dX1_lots_164 (by decide) ?_
              obtain ⟨w20, ew20, hd⟩ := bs_let_spec hd
              refine lv_iinc (pc := 203) (v := w20) (lv' := [(5, .int w20), (6, .int w14), (3, .long w11), (0, .ref (h 0)), (1, .int a1), (2, .int a2)]) hx hb dX1_lots_203 hl (k := 5) rfl (by rw [ew20]; rfl) (by decide) rfl (fun ls hl => ?_)
              refine lv_goto (pc := 206) (tgt := 61) hx hb dX1_lots_206 (by decide) ?_
              exact ih61 q19 w11 w20 _ _ _ hH (lv_sub hl [3, 4, 5, 2, 0] rfl) hd
        · have hd := if_t c15 hd
          refine lv_aload_n (pc := 103) hx hb dX1_lots_103 rfl (lv_at hl 2 rfl) ?_
          refine lv_iload (pc := 104) hx hb dX1_lots_104 (lv_at hl 0 rfl) ?_
          refine lv_aload_n (pc := 106) hx hb dX1_lots_106 rfl (lv_at hl 2 rfl) ?_
          refine mg_now (pc := 107) S hK hH dX1_lots_107 ?_
          refine lv_bipush (v := (71 : Int32)) (pc := 110) hx hb dX1_lots_110 (by decide) ?_
          obtain ⟨v21, hv21, hd⟩ := bs_bd hd
          refine ml_now (pc := 112) S hK hH hv21 dX1_lots_112 ?_
          refine lv_iload (pc := 113) hx hb dX1_lots_113 (lv_at hl 0 rfl) ?_
          obtain ⟨v22, hv22, hd⟩ := bs_bd hd
          refine call_M_has (pc := 115) S hl q1075 hv22 ⟨Nat.le_of_ble_eq_true rfl, Nat.le_of_ble_eq_true rfl⟩ (Nat.le_of_ble_eq_true rfl) dX1_lots_115 ⟨Nat.zero_le _, Nat.zero_le _⟩ ?_
          refine lv_if_eq (pc := 118) (tgt := 127) hx hb dX1_lots_118 (by decide) (fun c23 => ?_) (fun c23 => ?_)
          · have hd := if_t c23 hd
            refine lv_sipush (v := (3000 : Int32)) (pc := 127) hx hb dX1_lots_127 (by decide) ?_
            exact h130 st w11 x5 (3000 : Int32) w14 _ _ _ hH (lv_sub hl [2, 3, 4, 1, 5] rfl) hd
          · have hd := if_n c23 hd
            refine lv_sipush (v := (2000 : Int32)) (pc := 121) hx hb dX1_lots_121 (by decide) ?_
            refine lv_goto (pc := 124) (tgt := 130) hx hb dX1_lots_124 (by decide) ?_
            exact h130 st w11 x5 (2000 : Int32) w14 _ _ _ hH (lv_sub hl [2, 3, 4, 1, 5] rfl) hd
  unfold M_lots at hd
  refine lv_iload_n (pc := 0) hx hb dX1_lots_0 rfl (lv_at hl 1 rfl) ?_
  refine lv_i2l (pc := 1) hx hb dX1_lots_1 rfl ?_
  refine lv_lconst (v := (1 : Int64)) (pc := 2) hx hb dX1_lots_2 (by decide) ?_
  refine lv_ldc2 (pc := 3) (own := RX1) (v := (20 : Int64)) hx hb S.2.2.2.1 (S.2.2.2.2 _ q1294) dX1_lots_3 ?_
  obtain ⟨v1, hv1, hd⟩ := bs_bd hd
  refine call_M_in (pc := 6) S hl q974 hv1 ⟨Nat.le_of_ble_eq_true rfl, Nat.le_of_ble_eq_true rfl⟩ (Nat.le_of_ble_eq_true rfl) dX1_lots_6 ⟨Nat.zero_le _, Nat.zero_le _⟩ ?_
  refine lv_if_eq (pc := 9) (tgt := 24) hx hb dX1_lots_9 (by decide) (fun c2 => ?_) (fun c2 => ?_)
  · have hd := if_t c2 hd
    refine lv_iconst (v := (-1 : Int32)) (pc := 24) hx hb dX1_lots_24 (by decide) ?_
    exact g_iret (WM ct h) hd S hr hlk hH dX1_lots_25
  · have hd := if_n c2 hd
    refine lv_iload_n (pc := 12) hx hb dX1_lots_12 rfl (lv_at hl 2 rfl) ?_
    refine lv_i2l (pc := 13) hx hb dX1_lots_13 rfl ?_
    refine lv_lconst (v := (1 : Int64)) (pc := 14) hx hb dX1_lots_14 (by decide) ?_
    refine lv_ldc2 (pc := 15) (own := RX1) (v := (2147483646 : Int64)) hx hb S.2.2.2.1 (S.2.2.2.2 _ q1295) dX1_lots_15 ?_
    obtain ⟨v3, hv3, hd⟩ := bs_bd hd
    refine call_M_in (pc := 18) S hl q974 hv3 ⟨Nat.le_of_ble_eq_true rfl, Nat.le_of_ble_eq_true rfl⟩ (Nat.le_of_ble_eq_true rfl) dX1_lots_18 ⟨Nat.zero_le _, Nat.zero_le _⟩ ?_
    refine lv_if_ne (pc := 21) (tgt := 26) hx hb dX1_lots_21 (by decide) (fun c4 => ?_) (fun c4 => ?_)
    · have hd := if_n c4 hd
      refine lv_aload_n (pc := 26) hx hb dX1_lots_26 rfl (lv_at hl 0 rfl) ?_
      refine mg_now (pc := 27) S hK hH dX1_lots_27 ?_
      refine lv_iconst (v := (0 : Int32)) (pc := 30) hx hb dX1_lots_30 (by decide) ?_
      obtain ⟨v5, hv5, hd⟩ := bs_bd hd
      refine ml_now (pc := 31) S hK hH hv5 dX1_lots_31 ?_
      refine lv_if_ne (pc := 32) (tgt := 38) hx hb dX1_lots_32 (by decide) (fun c6 => ?_) (fun c6 => ?_)
      · have hd := if_n c6 hd
        refine lv_aload_n (pc := 38) hx hb dX1_lots_38 rfl (lv_at hl 0 rfl) ?_
        refine mg_now (pc := 39) S hK hH dX1_lots_39 ?_
        refine lv_bipush (v := (29 : Int32)) (pc := 42) hx hb dX1_lots_42 (by decide) ?_
        obtain ⟨v7, hv7, hd⟩ := bs_bd hd
        refine ml_now (pc := 44) S hK hH hv7 dX1_lots_44 ?_
        refine lv_iload_n (pc := 45) hx hb dX1_lots_45 rfl (lv_at hl 1 rfl) ?_
        refine lv_iadd (pc := 46) hx hb dX1_lots_46 ?_
        refine lv_bipush (v := (40 : Int32)) (pc := 47) hx hb dX1_lots_47 (by decide) ?_
        refine lv_icmp_le (pc := 49) (tgt := 55) hx hb dX1_lots_49 (by decide) (fun c8 => ?_) (fun c8 => ?_)
        · have hd := if_t c8 hd
          refine lv_iload_n (pc := 55) hx hb dX1_lots_55 rfl (lv_at hl 2 rfl) ?_
          refine lv_i2l (pc := 56) hx hb dX1_lots_56 rfl ?_
          obtain ⟨w9, ew9, hd⟩ := bs_let_spec hd
          refine lv_topEl (pc := 57) ew9 ?_
          refine lv_lstore_n (pc := 57) (lv' := [(3, .long w9), (0, .ref (h 0)), (1, .int a1), (2, .int a2)]) hx hb dX1_lots_57 rfl hl (by decide) rfl (fun ls hl => ?_)
          refine lv_iconst (v := (0 : Int32)) (pc := 58) hx hb dX1_lots_58 (by decide) ?_
          refine lv_istore (pc := 59) (lv' := [(5, .int (0 : Int32)), (3, .long w9), (0, .ref (h 0)), (1, .int a1), (2, .int a2)]) hx hb dX1_lots_59 hl (by decide) rfl (fun ls hl => ?_)
          exact h61 bs_fu st w9 (0 : Int32) _ _ _ hH (lv_sub hl [2, 3, 4, 1, 0] rfl) hd
        · have hd := if_n c8 hd
          refine lv_bipush (v := (-2 : Int32)) (pc := 52) hx hb dX1_lots_52 (by decide) ?_
          exact g_iret (WM ct h) hd S hr hlk hH dX1_lots_54
      · have hd := if_t c6 hd
        refine lv_bipush (v := (-4 : Int32)) (pc := 35) hx hb dX1_lots_35 (by decide) ?_
        exact g_iret (WM ct h) hd S hr hlk hH dX1_lots_37
    · have hd := if_t c4 hd
      refine lv_iconst (v := (-1 : Int32)) (pc := 24) hx hb dX1_lots_24 (by decide) ?_
      exact g_iret (WM ct h) hd S hr hlk hH dX1_lots_25
section CR_M_lots
variable {p : Program} {l : Launch} {e : Env} {R : Room} {s : State} {m : MethodId} {args : Array Value} {below : List Frame} {meth : Method} {c : Code} {H : Heap} {locs : List Loc} {cells slots : Nat} {Q : State → Prop}
variable {cc : ByteArray} {pc nL idx : Nat} {ls : Array Slot} {rest : List Value} {lv : List (Nat × Value)} {A : Nat → Prop} {H0 : Heap} {own : String}
theorem call_M_lots {D : va_G} {ct : Nat → ClassId} {h : Nat → Nat} {st : MS} {a1 : Int32} {a2 : Int32} {z : (MS × Int32)} (S : CallFix p m c cc nL s args lw_all own) (hl : lv_has ls nL lv) (hK : va_K D clA (tysG ct) s) (hH : GH D A (mAs h) H0 (WM ct h st) H locs) (hlk : Cond.methodLink own idx yX1_lots ∈ lw_all) (hv : M_lots st a1 a2 = some z) (hR : 7 ≤ R.frames ∧ 167 ≤ R.locals) (hsum : (rest.map fun v => v.category).sum ≤ 8) (hdg : decode cc pc = .ok (.invokevirtual idx, 3)) (hf : cells ≤ R.cells ∧ slots ≤ R.slots)
    (k : ∀ (H1 : Heap) (locs1 : List Loc), GH D A (mAs h) H0 (WM ct h z.1) H1 locs1 → W p l e R s m args below meth c H1 locs1 cells slots Q (F0 m (pc + 3) ls (.int z.2 :: rest))) : W p l e R s m args below meth c H locs cells slots Q (F0 m pc ls (.int a2 :: .int a1 :: .ref (h 0) :: rest)) :=
  g_calli (av := [.int a1, .int a2]) S hl gE_0_ok trivial hK hH (met_M_lots l D ct h H.size st a1 a2 z hv) (lw_V hlk q1291 q1292 q70 q1293) rfl rfl ⟨rfl, by decide, by decide, by show (parseMethodDescriptor yX1_lots.desc).map (fun d => d.parameters.length) = some 2; decide +kernel⟩ hR (m_recv hK hH) (fun _ h => Or.inl h) rfl hsum hdg hf k
end CR_M_lots
/-! CapCouncilModel.asked ()I -/
def M_asked (st : MS) : Option Int32 :=
  some (mi st 1)
def rm_M_asked : Room := { frames := 0, cells := 0, slots := 0, locals := 0 }
set_option maxHeartbeats 4000000 in
set_option maxRecDepth 100000 in
theorem met_M_asked (l : Launch) (D : va_G) (ct : Nat → ClassId) (h : Nat → Nat) (sz : Nat) (st : MS) (z : Int32) (hd : M_asked st = some z) : Met l yX1_asked (ws_ yX1_asked cX1_asked 1 (some .int)) rm_M_asked (GPre gE_0 D ct (mAs h) (WM ct h st) sz [.ref (h 0)]) (vp_Si (fun r => r = z)) 0 0 (fun _ => False) := by
  refine g_met (cc := cX1_asked) (maxL := 1) (ret := (some .int)) (by decide) (Nat.le_of_ble_eq_true rfl) ?_
  intro p e U m args below meth c ls S hr hlk hK hH hE hsz hl
  have S : CallFix p m c cX1_asked 1 U args lw_all RX1 := S
  have hx := S.1
  have hb := S.2.1
  have hl : lv_has ls 1 [(0, .ref (h 0))] := hl
  unfold M_asked at hd
  refine lv_aload_n (pc := 0) hx hb dX1_asked_0 rfl (lv_at hl 0 rfl) ?_
  refine mg_askedIs (pc := 1) S hK hH dX1_asked_1 ?_
  exact r_iret hd S hr hlk dX1_asked_4
section CR_M_asked
variable {p : Program} {l : Launch} {e : Env} {R : Room} {s : State} {m : MethodId} {args : Array Value} {below : List Frame} {meth : Method} {c : Code} {H : Heap} {locs : List Loc} {cells slots : Nat} {Q : State → Prop}
variable {cc : ByteArray} {pc nL idx : Nat} {ls : Array Slot} {rest : List Value} {lv : List (Nat × Value)} {A : Nat → Prop} {H0 : Heap} {own : String}
theorem call_M_asked {D : va_G} {ct : Nat → ClassId} {h : Nat → Nat} {st : MS} {z : Int32} (S : CallFix p m c cc nL s args lw_all own) (hl : lv_has ls nL lv) (hK : va_K D clA (tysG ct) s) (hH : GH D A (mAs h) H0 (WM ct h st) H locs) (hlk : Cond.methodLink own idx yX1_asked ∈ lw_all) (hv : M_asked st = some z) (hR : 1 ≤ R.frames ∧ 20 ≤ R.locals) (hsum : (rest.map fun v => v.category).sum ≤ 8) (hdg : decode cc pc = .ok (.invokevirtual idx, 3)) (hf : cells ≤ R.cells ∧ slots ≤ R.slots)
    (k : W p l e R s m args below meth c H locs cells slots Q (F0 m (pc + 3) ls (.int z :: rest))) : W p l e R s m args below meth c H locs cells slots Q (F0 m pc ls (.ref (h 0) :: rest)) :=
  r_calli (av := []) S hl gE_0_ok trivial hK hH (met_M_asked l D ct h H.size st z hv) (lw_V hlk q1302 q1303 q70 q1304) rfl rfl ⟨rfl, by decide, by decide, by show (parseMethodDescriptor yX1_asked.desc).map (fun d => d.parameters.length) = some 0; decide +kernel⟩ hR (m_recv hK hH) rfl hsum hdg hf k
end CR_M_asked
/-! CapCouncilModel.upper ()J -/
def M_upper (st : MS) : Option Int64 :=
  some (ml st 0)
def rm_M_upper : Room := { frames := 0, cells := 0, slots := 0, locals := 0 }
set_option maxHeartbeats 4000000 in
set_option maxRecDepth 100000 in
theorem met_M_upper (l : Launch) (D : va_G) (ct : Nat → ClassId) (h : Nat → Nat) (sz : Nat) (st : MS) (z : Int64) (hd : M_upper st = some z) : Met l yX1_upper (ws_ yX1_upper cX1_upper 1 (some .long)) rm_M_upper (GPre gE_0 D ct (mAs h) (WM ct h st) sz [.ref (h 0)]) (vp_Sl (fun r => r = z)) 0 0 (fun _ => False) := by
  refine g_met (cc := cX1_upper) (maxL := 1) (ret := (some .long)) (by decide) (Nat.le_of_ble_eq_true rfl) ?_
  intro p e U m args below meth c ls S hr hlk hK hH hE hsz hl
  have S : CallFix p m c cX1_upper 1 U args lw_all RX1 := S
  have hx := S.1
  have hb := S.2.1
  have hl : lv_has ls 1 [(0, .ref (h 0))] := hl
  unfold M_upper at hd
  refine lv_aload_n (pc := 0) hx hb dX1_upper_0 rfl (lv_at hl 0 rfl) ?_
  refine mg_above (pc := 1) S hK hH dX1_upper_1 ?_
  exact r_lret hd S hr hlk dX1_upper_4
section CR_M_upper
variable {p : Program} {l : Launch} {e : Env} {R : Room} {s : State} {m : MethodId} {args : Array Value} {below : List Frame} {meth : Method} {c : Code} {H : Heap} {locs : List Loc} {cells slots : Nat} {Q : State → Prop}
variable {cc : ByteArray} {pc nL idx : Nat} {ls : Array Slot} {rest : List Value} {lv : List (Nat × Value)} {A : Nat → Prop} {H0 : Heap} {own : String}
theorem call_M_upper {D : va_G} {ct : Nat → ClassId} {h : Nat → Nat} {st : MS} {z : Int64} (S : CallFix p m c cc nL s args lw_all own) (hl : lv_has ls nL lv) (hK : va_K D clA (tysG ct) s) (hH : GH D A (mAs h) H0 (WM ct h st) H locs) (hlk : Cond.methodLink own idx yX1_upper ∈ lw_all) (hv : M_upper st = some z) (hR : 1 ≤ R.frames ∧ 20 ≤ R.locals) (hsum : (rest.map fun v => v.category).sum ≤ 8) (hdg : decode cc pc = .ok (.invokevirtual idx, 3)) (hf : cells ≤ R.cells ∧ slots ≤ R.slots)
    (k : W p l e R s m args below meth c H locs cells slots Q (F0 m (pc + 3) ls (.long z :: rest))) : W p l e R s m args below meth c H locs cells slots Q (F0 m pc ls (.ref (h 0) :: rest)) :=
  r_calll (av := []) S hl gE_0_ok trivial hK hH (met_M_upper l D ct h H.size st z hv) (lw_V hlk q1306 q1307 q70 q1308) rfl rfl ⟨rfl, by decide, by decide, by show (parseMethodDescriptor yX1_upper.desc).map (fun d => d.parameters.length) = some 0; decide +kernel⟩ hR (m_recv hK hH) rfl hsum hdg hf k
end CR_M_upper
/-! CapCouncilModel.lower ()J -/
def M_lower (st : MS) : Option Int64 :=
  some (ml st 1)
def rm_M_lower : Room := { frames := 0, cells := 0, slots := 0, locals := 0 }
set_option maxHeartbeats 4000000 in
set_option maxRecDepth 100000 in
theorem met_M_lower (l : Launch) (D : va_G) (ct : Nat → ClassId) (h : Nat → Nat) (sz : Nat) (st : MS) (z : Int64) (hd : M_lower st = some z) : Met l yX1_lower (ws_ yX1_lower cX1_lower 1 (some .long)) rm_M_lower (GPre gE_0 D ct (mAs h) (WM ct h st) sz [.ref (h 0)]) (vp_Sl (fun r => r = z)) 0 0 (fun _ => False) := by
  refine g_met (cc := cX1_lower) (maxL := 1) (ret := (some .long)) (by decide) (Nat.le_of_ble_eq_true rfl) ?_
  intro p e U m args below meth c ls S hr hlk hK hH hE hsz hl
  have S : CallFix p m c cX1_lower 1 U args lw_all RX1 := S
  have hx := S.1
  have hb := S.2.1
  have hl : lv_has ls 1 [(0, .ref (h 0))] := hl
  unfold M_lower at hd
  refine lv_aload_n (pc := 0) hx hb dX1_lower_0 rfl (lv_at hl 0 rfl) ?_
  refine mg_below (pc := 1) S hK hH dX1_lower_1 ?_
  exact r_lret hd S hr hlk dX1_lower_4
section CR_M_lower
variable {p : Program} {l : Launch} {e : Env} {R : Room} {s : State} {m : MethodId} {args : Array Value} {below : List Frame} {meth : Method} {c : Code} {H : Heap} {locs : List Loc} {cells slots : Nat} {Q : State → Prop}
variable {cc : ByteArray} {pc nL idx : Nat} {ls : Array Slot} {rest : List Value} {lv : List (Nat × Value)} {A : Nat → Prop} {H0 : Heap} {own : String}
theorem call_M_lower {D : va_G} {ct : Nat → ClassId} {h : Nat → Nat} {st : MS} {z : Int64} (S : CallFix p m c cc nL s args lw_all own) (hl : lv_has ls nL lv) (hK : va_K D clA (tysG ct) s) (hH : GH D A (mAs h) H0 (WM ct h st) H locs) (hlk : Cond.methodLink own idx yX1_lower ∈ lw_all) (hv : M_lower st = some z) (hR : 1 ≤ R.frames ∧ 20 ≤ R.locals) (hsum : (rest.map fun v => v.category).sum ≤ 8) (hdg : decode cc pc = .ok (.invokevirtual idx, 3)) (hf : cells ≤ R.cells ∧ slots ≤ R.slots)
    (k : W p l e R s m args below meth c H locs cells slots Q (F0 m (pc + 3) ls (.long z :: rest))) : W p l e R s m args below meth c H locs cells slots Q (F0 m pc ls (.ref (h 0) :: rest)) :=
  r_calll (av := []) S hl gE_0_ok trivial hK hH (met_M_lower l D ct h H.size st z hv) (lw_V hlk q1310 q1311 q70 q1312) rfl rfl ⟨rfl, by decide, by decide, by show (parseMethodDescriptor yX1_lower.desc).map (fun d => d.parameters.length) = some 0; decide +kernel⟩ hR (m_recv hK hH) rfl hsum hdg hf k
end CR_M_lower
/-! CapCouncilModel.manyOld ()I -/
def M_manyOld_L4 (st : MS) : Nat → Int32 → Int32 → Option Int32
  | 0, _, _ => none
  | n + 1, x1, x2 =>
    (bs_ld (ma st 0) 84 (0 : Int32)).bind fun v1 =>
    if v1 ≤ x2 then
      (some x1)
    else
      ((bs_ld (ma st 0) 84 ((2 : Int32) + x2)).bind fun v3 =>
      (M_isOf v3 (1 : Int32)).bind fun v4 =>
      if v4 = 0 then
        (bs_let (x1 + (0 : Int32)) fun w6 =>
        bs_let (x2 + (1 : Int32)) fun w7 =>
        M_manyOld_L4 st n w6 w7)
      else
        (bs_let (x1 + (1 : Int32)) fun w8 =>
        bs_let (x2 + (1 : Int32)) fun w9 =>
        M_manyOld_L4 st n w8 w9))
def M_manyOld (st : MS) : Option Int32 :=
  M_manyOld_L4 st bs_fu (0 : Int32) (0 : Int32)
def rm_M_manyOld : Room := { frames := 1, cells := 0, slots := 0, locals := 21 }
set_option maxHeartbeats 4000000 in
set_option maxRecDepth 100000 in
theorem met_M_manyOld (l : Launch) (D : va_G) (ct : Nat → ClassId) (h : Nat → Nat) (sz : Nat) (st : MS) (z : Int32) (hd : M_manyOld st = some z) : Met l yX1_manyOld (ws_ yX1_manyOld cX1_manyOld 3 (some .int)) rm_M_manyOld (GPre gE_0 D ct (mAs h) (WM ct h st) sz [.ref (h 0)]) (vp_Si (fun r => r = z)) 0 0 (fun _ => False) := by
  refine g_met (cc := cX1_manyOld) (maxL := 3) (ret := (some .int)) (by decide) (Nat.le_of_ble_eq_true rfl) ?_
  intro p e U m args below meth c ls S hr hlk hK hH hE hsz hl
  have S : CallFix p m c cX1_manyOld 3 U args lw_all RX1 := S
  have hx := S.1
  have hb := S.2.1
  have hl : lv_has ls 3 [(0, .ref (h 0))] := hl
  have h4 : ∀ (n4 : Nat) (x1 : Int32) (x2 : Int32) (ls : Array Slot), lv_has ls 3 [(0, .ref (h 0)), (1, .int x1), (2, .int x2)] → M_manyOld_L4 st n4 x1 x2 = some z → W p l e rm_M_manyOld U m args below meth c U.heap [] 0 0 (MQ below (vp_Si (fun r => r = z)) args U 0 0 (fun _ => False)) (F0 m 4 ls []) := by
    intro n4
    induction n4 with
    | zero =>
      intro x1 x2 ls hl hd
      rw [M_manyOld_L4] at hd
      cases hd
    | succ n4 ih4 =>
      intro x1 x2 ls hl hd
      rw [M_manyOld_L4] at hd
      refine lv_iload_n (pc := 4) hx hb dX1_manyOld_4 rfl (lv_at hl 2 rfl) ?_
      refine lv_aload_n (pc := 5) hx hb dX1_manyOld_5 rfl (lv_at hl 0 rfl) ?_
      refine mg_now (pc := 6) S hK hH dX1_manyOld_6 ?_
      refine lv_iconst (v := (0 : Int32)) (pc := 9) hx hb dX1_manyOld_9 (by decide) ?_
      obtain ⟨v1, hv1, hd⟩ := bs_bd hd
      refine ml_now (pc := 10) S hK hH hv1 dX1_manyOld_10 ?_
      refine lv_icmp_ge (pc := 11) (tgt := 43) hx hb dX1_manyOld_11 (by decide) (fun c2 => ?_) (fun c2 => ?_)
      · have hd := if_t c2 hd
        refine lv_iload_n (pc := 43) hx hb dX1_manyOld_43 rfl (lv_at hl 1 rfl) ?_
        exact r_iret hd S hr hlk dX1_manyOld_44
      · have hd := if_n c2 hd
        refine lv_iload_n (pc := 14) hx hb dX1_manyOld_14 rfl (lv_at hl 1 rfl) ?_
        refine lv_aload_n (pc := 15) hx hb dX1_manyOld_15 rfl (lv_at hl 0 rfl) ?_
        refine mg_now (pc := 16) S hK hH dX1_manyOld_16 ?_
        refine lv_iconst (v := (2 : Int32)) (pc := 19) hx hb dX1_manyOld_19 (by decide) ?_
        refine lv_iload_n (pc := 20) hx hb dX1_manyOld_20 rfl (lv_at hl 2 rfl) ?_
        refine lv_iadd (pc := 21) hx hb dX1_manyOld_21 ?_
        obtain ⟨v3, hv3, hd⟩ := bs_bd hd
        refine ml_now (pc := 22) S hK hH hv3 dX1_manyOld_22 ?_
        refine lv_iconst (v := (1 : Int32)) (pc := 23) hx hb dX1_manyOld_23 (by decide) ?_
        obtain ⟨v4, hv4, hd⟩ := bs_bd hd
        refine call_M_isOf (pc := 24) S hl q1124 hv4 ⟨Nat.le_of_ble_eq_true rfl, Nat.le_of_ble_eq_true rfl⟩ (Nat.le_of_ble_eq_true rfl) dX1_manyOld_24 ⟨Nat.zero_le _, Nat.zero_le _⟩ ?_
        refine lv_if_eq (pc := 27) (tgt := 34) hx hb dX1_manyOld_27 (by decide) (fun c5 => ?_) (fun c5 => ?_)
        · have hd := if_t c5 hd
          refine lv_iconst (v := (0 : Int32)) (pc := 34) hx hb dX1_manyOld_34 (by decide) ?_
          refine lv_iadd (pc := 35) hx hb dX1_manyOld_35 ?_
          obtain ⟨w6, ew6, hd⟩ := bs_let_spec hd
          refine lv_topE (pc := 36) ew6 ?_
          refine lv_istore_n (pc := 36) (lv' := [(1, .int w6), (0, .ref (h 0)), (2, .int x2)]) hx hb dX1_manyOld_36 rfl hl (by decide) rfl (fun ls hl => ?_)
          obtain ⟨w7, ew7, hd⟩ := bs_let_spec hd
          refine lv_iinc (pc := 37) (v := w7) (lv' := [(2, .int w7), (1, .int w6), (0, .ref (h 0))]) hx hb dX1_manyOld_37 hl (k := 2) rfl (by rw [ew7]; rfl) (by decide) rfl (fun ls hl => ?_)
          refine lv_goto (pc := 40) (tgt := 4) hx hb dX1_manyOld_40 (by decide) ?_
          exact ih4 w6 w7 _ (lv_sub hl [2, 1, 0] rfl) hd
        · have hd := if_n c5 hd
          refine lv_iconst (v := (1 : Int32)) (pc := 30) hx hb dX1_manyOld_30 (by decide) ?_
          refine lv_goto (pc := 31) (tgt := 35) hx hb dX1_manyOld_31 (by decide) ?_
          refine lv_iadd (pc := 35) hx hb dX1_manyOld_35 ?_
          obtain ⟨w8, ew8, hd⟩ := bs_let_spec hd
          refine lv_topE (pc := 36) ew8 ?_
          refine lv_istore_n (pc := 36) (lv' := [(1, .int w8), (0, .ref (h 0)), (2, .int x2)]) hx hb dX1_manyOld_36 rfl hl (by decide) rfl (fun ls hl => ?_)
          obtain ⟨w9, ew9, hd⟩ := bs_let_spec hd
          refine lv_iinc (pc := 37) (v := w9) (lv' := [(2, .int w9), (1, .int w8), (0, .ref (h 0))]) hx hb dX1_manyOld_37 hl (k := 2) rfl (by rw [ew9]; rfl) (by decide) rfl (fun ls hl => ?_)
          refine lv_goto (pc := 40) (tgt := 4) hx hb dX1_manyOld_40 (by decide) ?_
          exact ih4 w8 w9 _ (lv_sub hl [2, 1, 0] rfl) hd
  unfold M_manyOld at hd
  refine lv_iconst (v := (0 : Int32)) (pc := 0) hx hb dX1_manyOld_0 (by decide) ?_
  refine lv_istore_n (pc := 1) (lv' := [(1, .int (0 : Int32)), (0, .ref (h 0))]) hx hb dX1_manyOld_1 rfl hl (by decide) rfl (fun ls hl => ?_)
  refine lv_iconst (v := (0 : Int32)) (pc := 2) hx hb dX1_manyOld_2 (by decide) ?_
  refine lv_istore_n (pc := 3) (lv' := [(2, .int (0 : Int32)), (1, .int (0 : Int32)), (0, .ref (h 0))]) hx hb dX1_manyOld_3 rfl hl (by decide) rfl (fun ls hl => ?_)
  exact h4 bs_fu (0 : Int32) (0 : Int32) _ (lv_sub hl [2, 1, 0] rfl) hd
section CR_M_manyOld
variable {p : Program} {l : Launch} {e : Env} {R : Room} {s : State} {m : MethodId} {args : Array Value} {below : List Frame} {meth : Method} {c : Code} {H : Heap} {locs : List Loc} {cells slots : Nat} {Q : State → Prop}
variable {cc : ByteArray} {pc nL idx : Nat} {ls : Array Slot} {rest : List Value} {lv : List (Nat × Value)} {A : Nat → Prop} {H0 : Heap} {own : String}
theorem call_M_manyOld {D : va_G} {ct : Nat → ClassId} {h : Nat → Nat} {st : MS} {z : Int32} (S : CallFix p m c cc nL s args lw_all own) (hl : lv_has ls nL lv) (hK : va_K D clA (tysG ct) s) (hH : GH D A (mAs h) H0 (WM ct h st) H locs) (hlk : Cond.methodLink own idx yX1_manyOld ∈ lw_all) (hv : M_manyOld st = some z) (hR : 2 ≤ R.frames ∧ 43 ≤ R.locals) (hsum : (rest.map fun v => v.category).sum ≤ 8) (hdg : decode cc pc = .ok (.invokevirtual idx, 3)) (hf : cells ≤ R.cells ∧ slots ≤ R.slots)
    (k : W p l e R s m args below meth c H locs cells slots Q (F0 m (pc + 3) ls (.int z :: rest))) : W p l e R s m args below meth c H locs cells slots Q (F0 m pc ls (.ref (h 0) :: rest)) :=
  r_calli (av := []) S hl gE_0_ok trivial hK hH (met_M_manyOld l D ct h H.size st z hv) (lw_V hlk q1324 qs67 q70 q1325) rfl rfl ⟨rfl, by decide, by decide, by show (parseMethodDescriptor yX1_manyOld.desc).map (fun d => d.parameters.length) = some 0; decide +kernel⟩ hR (m_recv hK hH) rfl hsum hdg hf k
end CR_M_manyOld
/-! CapCouncilModel.manyThere ([II)I -/
def M_manyThere_rowLong_L4 (st : MS) (a1 : Int32) : Nat → Int32 → Int32 → Option Int32
  | 0, _, _ => none
  | n + 1, x2, x3 =>
    if a1 ≤ x3 then
      (some x2)
    else
      ((bs_ld (ma st 4) 6 x3).bind fun v2 =>
      if 0 ≤ v2 then
        (bs_let (x2 + (1 : Int32)) fun w4 =>
        bs_let (x3 + (1 : Int32)) fun w5 =>
        M_manyThere_rowLong_L4 st a1 n w4 w5)
      else
        (bs_let (x2 + (0 : Int32)) fun w6 =>
        bs_let (x3 + (1 : Int32)) fun w7 =>
        M_manyThere_rowLong_L4 st a1 n w6 w7))
def M_manyThere_rowLong (st : MS) (a1 : Int32) : Option Int32 :=
  M_manyThere_rowLong_L4 st a1 bs_fu (0 : Int32) (0 : Int32)
def rm_M_manyThere_rowLong : Room := { frames := 0, cells := 0, slots := 0, locals := 0 }
set_option maxHeartbeats 4000000 in
set_option maxRecDepth 100000 in
theorem met_M_manyThere_rowLong (l : Launch) (D : va_G) (ct : Nat → ClassId) (h : Nat → Nat) (sz : Nat) (st : MS) (a1 : Int32) (z : Int32) (hd : M_manyThere_rowLong st a1 = some z) : Met l yX1_manyThere (ws_ yX1_manyThere cX1_manyThere 4 (some .int)) rm_M_manyThere_rowLong (GPre gE_0 D ct (mAs h) (WM ct h st) sz [.ref (h 5), .int a1]) (vp_Si (fun r => r = z)) 0 0 (fun _ => False) := by
  refine g_met (cc := cX1_manyThere) (maxL := 4) (ret := (some .int)) (by decide) (Nat.le_of_ble_eq_true rfl) ?_
  intro p e U m args below meth c ls S hr hlk hK hH hE hsz hl
  have S : CallFix p m c cX1_manyThere 4 U args lw_all RX1 := S
  have hx := S.1
  have hb := S.2.1
  have hl : lv_has ls 4 [(0, .ref (h 5)), (1, .int a1)] := hl
  have h4 : ∀ (n4 : Nat) (x2 : Int32) (x3 : Int32) (ls : Array Slot), lv_has ls 4 [(0, .ref (h 5)), (1, .int a1), (2, .int x2), (3, .int x3)] → M_manyThere_rowLong_L4 st a1 n4 x2 x3 = some z → W p l e rm_M_manyThere_rowLong U m args below meth c U.heap [] 0 0 (MQ below (vp_Si (fun r => r = z)) args U 0 0 (fun _ => False)) (F0 m 4 ls []) := by
    intro n4
    induction n4 with
    | zero =>
      intro x2 x3 ls hl hd
      rw [M_manyThere_rowLong_L4] at hd
      cases hd
    | succ n4 ih4 =>
      intro x2 x3 ls hl hd
      rw [M_manyThere_rowLong_L4] at hd
      refine lv_iload_n (pc := 4) hx hb dX1_manyThere_4 rfl (lv_at hl 3 rfl) ?_
      refine lv_iload_n (pc := 5) hx hb dX1_manyThere_5 rfl (lv_at hl 1 rfl) ?_
      refine lv_icmp_ge (pc := 6) (tgt := 29) hx hb dX1_manyThere_6 (by decide) (fun c1 => ?_) (fun c1 => ?_)
      · have hd := if_t c1 hd
        refine lv_iload_n (pc := 29) hx hb dX1_manyThere_29 rfl (lv_at hl 2 rfl) ?_
        exact r_iret hd S hr hlk dX1_manyThere_30
      · have hd := if_n c1 hd
        refine lv_iload_n (pc := 9) hx hb dX1_manyThere_9 rfl (lv_at hl 2 rfl) ?_
        refine lv_aload_n (pc := 10) hx hb dX1_manyThere_10 rfl (lv_at hl 0 rfl) ?_
        refine lv_iload_n (pc := 11) hx hb dX1_manyThere_11 rfl (lv_at hl 3 rfl) ?_
        obtain ⟨v2, hv2, hd⟩ := bs_bd hd
        refine ml_rowLong (pc := 12) S hK hH hv2 dX1_manyThere_12 ?_
        refine lv_if_ge (pc := 13) (tgt := 20) hx hb dX1_manyThere_13 (by decide) (fun c3 => ?_) (fun c3 => ?_)
        · have hd := if_t c3 hd
          refine lv_iconst (v := (1 : Int32)) (pc := 20) hx hb dX1_manyThere_20 (by decide) ?_
          refine lv_iadd (pc := 21) hx hb dX1_manyThere_21 ?_
          obtain ⟨w4, ew4, hd⟩ := bs_let_spec hd
          refine lv_topE (pc := 22) ew4 ?_
          refine lv_istore_n (pc := 22) (lv' := [(2, .int w4), (0, .ref (h 5)), (1, .int a1), (3, .int x3)]) hx hb dX1_manyThere_22 rfl hl (by decide) rfl (fun ls hl => ?_)
          obtain ⟨w5, ew5, hd⟩ := bs_let_spec hd
          refine lv_iinc (pc := 23) (v := w5) (lv' := [(3, .int w5), (2, .int w4), (0, .ref (h 5)), (1, .int a1)]) hx hb dX1_manyThere_23 hl (k := 3) rfl (by rw [ew5]; rfl) (by decide) rfl (fun ls hl => ?_)
          refine lv_goto (pc := 26) (tgt := 4) hx hb dX1_manyThere_26 (by decide) ?_
          exact ih4 w4 w5 _ (lv_sub hl [2, 3, 1, 0] rfl) hd
        · have hd := if_n c3 hd
          refine lv_iconst (v := (0 : Int32)) (pc := 16) hx hb dX1_manyThere_16 (by decide) ?_
          refine lv_goto (pc := 17) (tgt := 21) hx hb dX1_manyThere_17 (by decide) ?_
          refine lv_iadd (pc := 21) hx hb dX1_manyThere_21 ?_
          obtain ⟨w6, ew6, hd⟩ := bs_let_spec hd
          refine lv_topE (pc := 22) ew6 ?_
          refine lv_istore_n (pc := 22) (lv' := [(2, .int w6), (0, .ref (h 5)), (1, .int a1), (3, .int x3)]) hx hb dX1_manyThere_22 rfl hl (by decide) rfl (fun ls hl => ?_)
          obtain ⟨w7, ew7, hd⟩ := bs_let_spec hd
          refine lv_iinc (pc := 23) (v := w7) (lv' := [(3, .int w7), (2, .int w6), (0, .ref (h 5)), (1, .int a1)]) hx hb dX1_manyThere_23 hl (k := 3) rfl (by rw [ew7]; rfl) (by decide) rfl (fun ls hl => ?_)
          refine lv_goto (pc := 26) (tgt := 4) hx hb dX1_manyThere_26 (by decide) ?_
          exact ih4 w6 w7 _ (lv_sub hl [2, 3, 1, 0] rfl) hd
  unfold M_manyThere_rowLong at hd
  refine lv_iconst (v := (0 : Int32)) (pc := 0) hx hb dX1_manyThere_0 (by decide) ?_
  refine lv_istore_n (pc := 1) (lv' := [(2, .int (0 : Int32)), (0, .ref (h 5)), (1, .int a1)]) hx hb dX1_manyThere_1 rfl hl (by decide) rfl (fun ls hl => ?_)
  refine lv_iconst (v := (0 : Int32)) (pc := 2) hx hb dX1_manyThere_2 (by decide) ?_
  refine lv_istore_n (pc := 3) (lv' := [(3, .int (0 : Int32)), (2, .int (0 : Int32)), (0, .ref (h 5)), (1, .int a1)]) hx hb dX1_manyThere_3 rfl hl (by decide) rfl (fun ls hl => ?_)
  exact h4 bs_fu (0 : Int32) (0 : Int32) _ (lv_sub hl [2, 3, 1, 0] rfl) hd
section CR_M_manyThere_rowLong
variable {p : Program} {l : Launch} {e : Env} {R : Room} {s : State} {m : MethodId} {args : Array Value} {below : List Frame} {meth : Method} {c : Code} {H : Heap} {locs : List Loc} {cells slots : Nat} {Q : State → Prop}
variable {cc : ByteArray} {pc nL idx : Nat} {ls : Array Slot} {rest : List Value} {lv : List (Nat × Value)} {A : Nat → Prop} {H0 : Heap} {own : String}
theorem call_M_manyThere_rowLong {D : va_G} {ct : Nat → ClassId} {h : Nat → Nat} {st : MS} {a1 : Int32} {z : Int32} (S : CallFix p m c cc nL s args lw_all own) (hl : lv_has ls nL lv) (hK : va_K D clA (tysG ct) s) (hH : GH D A (mAs h) H0 (WM ct h st) H locs) (hlk : Cond.methodLink own idx yX1_manyThere ∈ lw_all) (hv : M_manyThere_rowLong st a1 = some z) (hR : 1 ≤ R.frames ∧ 23 ≤ R.locals) (hsum : (rest.map fun v => v.category).sum ≤ 8) (hdg : decode cc pc = .ok (.invokestatic idx, 3)) (hf : cells ≤ R.cells ∧ slots ≤ R.slots)
    (k : W p l e R s m args below meth c H locs cells slots Q (F0 m (pc + 3) ls (.int z :: rest))) : W p l e R s m args below meth c H locs cells slots Q (F0 m pc ls (.int a1 :: .ref (h 5) :: rest)) :=
  r_callsi (av := [.ref (h 5), .int a1]) S hl gE_0_ok trivial hK hH (met_M_manyThere_rowLong l D ct h H.size st a1 z hv) (lw_S hlk q1327 q70 q1328) rfl rfl ⟨by decide, by decide, by show (parseMethodDescriptor yX1_manyThere.desc).map (fun d => d.parameters.length) = some 2; decide +kernel⟩ hR rfl hsum hdg hf k
end CR_M_manyThere_rowLong
/-! CapCouncilModel.manyThere ([II)I -/
def M_manyThere_textLong_L4 (st : MS) (a1 : Int32) : Nat → Int32 → Int32 → Option Int32
  | 0, _, _ => none
  | n + 1, x2, x3 =>
    if a1 ≤ x3 then
      (some x2)
    else
      ((bs_ld (ma st 6) 4 x3).bind fun v2 =>
      if 0 ≤ v2 then
        (bs_let (x2 + (1 : Int32)) fun w4 =>
        bs_let (x3 + (1 : Int32)) fun w5 =>
        M_manyThere_textLong_L4 st a1 n w4 w5)
      else
        (bs_let (x2 + (0 : Int32)) fun w6 =>
        bs_let (x3 + (1 : Int32)) fun w7 =>
        M_manyThere_textLong_L4 st a1 n w6 w7))
def M_manyThere_textLong (st : MS) (a1 : Int32) : Option Int32 :=
  M_manyThere_textLong_L4 st a1 bs_fu (0 : Int32) (0 : Int32)
def rm_M_manyThere_textLong : Room := { frames := 0, cells := 0, slots := 0, locals := 0 }
set_option maxHeartbeats 4000000 in
set_option maxRecDepth 100000 in
theorem met_M_manyThere_textLong (l : Launch) (D : va_G) (ct : Nat → ClassId) (h : Nat → Nat) (sz : Nat) (st : MS) (a1 : Int32) (z : Int32) (hd : M_manyThere_textLong st a1 = some z) : Met l yX1_manyThere (ws_ yX1_manyThere cX1_manyThere 4 (some .int)) rm_M_manyThere_textLong (GPre gE_0 D ct (mAs h) (WM ct h st) sz [.ref (h 7), .int a1]) (vp_Si (fun r => r = z)) 0 0 (fun _ => False) := by
  refine g_met (cc := cX1_manyThere) (maxL := 4) (ret := (some .int)) (by decide) (Nat.le_of_ble_eq_true rfl) ?_
  intro p e U m args below meth c ls S hr hlk hK hH hE hsz hl
  have S : CallFix p m c cX1_manyThere 4 U args lw_all RX1 := S
  have hx := S.1
  have hb := S.2.1
  have hl : lv_has ls 4 [(0, .ref (h 7)), (1, .int a1)] := hl
  have h4 : ∀ (n4 : Nat) (x2 : Int32) (x3 : Int32) (ls : Array Slot), lv_has ls 4 [(0, .ref (h 7)), (1, .int a1), (2, .int x2), (3, .int x3)] → M_manyThere_textLong_L4 st a1 n4 x2 x3 = some z → W p l e rm_M_manyThere_textLong U m args below meth c U.heap [] 0 0 (MQ below (vp_Si (fun r => r = z)) args U 0 0 (fun _ => False)) (F0 m 4 ls []) := by
    intro n4
    induction n4 with
    | zero =>
      intro x2 x3 ls hl hd
      rw [M_manyThere_textLong_L4] at hd
      cases hd
    | succ n4 ih4 =>
      intro x2 x3 ls hl hd
      rw [M_manyThere_textLong_L4] at hd
      refine lv_iload_n (pc := 4) hx hb dX1_manyThere_4 rfl (lv_at hl 3 rfl) ?_
      refine lv_iload_n (pc := 5) hx hb dX1_manyThere_5 rfl (lv_at hl 1 rfl) ?_
      refine lv_icmp_ge (pc := 6) (tgt := 29) hx hb dX1_manyThere_6 (by decide) (fun c1 => ?_) (fun c1 => ?_)
      · have hd := if_t c1 hd
        refine lv_iload_n (pc := 29) hx hb dX1_manyThere_29 rfl (lv_at hl 2 rfl) ?_
        exact r_iret hd S hr hlk dX1_manyThere_30
      · have hd := if_n c1 hd
        refine lv_iload_n (pc := 9) hx hb dX1_manyThere_9 rfl (lv_at hl 2 rfl) ?_
        refine lv_aload_n (pc := 10) hx hb dX1_manyThere_10 rfl (lv_at hl 0 rfl) ?_
        refine lv_iload_n (pc := 11) hx hb dX1_manyThere_11 rfl (lv_at hl 3 rfl) ?_
        obtain ⟨v2, hv2, hd⟩ := bs_bd hd
        refine ml_textLong (pc := 12) S hK hH hv2 dX1_manyThere_12 ?_
        refine lv_if_ge (pc := 13) (tgt := 20) hx hb dX1_manyThere_13 (by decide) (fun c3 => ?_) (fun c3 => ?_)
        · have hd := if_t c3 hd
          refine lv_iconst (v := (1 : Int32)) (pc := 20) hx hb dX1_manyThere_20 (by decide) ?_
          refine lv_iadd (pc := 21) hx hb dX1_manyThere_21 ?_
          obtain ⟨w4, ew4, hd⟩ := bs_let_spec hd
          refine lv_topE (pc := 22) ew4 ?_
          refine lv_istore_n (pc := 22) (lv' := [(2, .int w4), (0, .ref (h 7)), (1, .int a1), (3, .int x3)]) hx hb dX1_manyThere_22 rfl hl (by decide) rfl (fun ls hl => ?_)
          obtain ⟨w5, ew5, hd⟩ := bs_let_spec hd
          refine lv_iinc (pc := 23) (v := w5) (lv' := [(3, .int w5), (2, .int w4), (0, .ref (h 7)), (1, .int a1)]) hx hb dX1_manyThere_23 hl (k := 3) rfl (by rw [ew5]; rfl) (by decide) rfl (fun ls hl => ?_)
          refine lv_goto (pc := 26) (tgt := 4) hx hb dX1_manyThere_26 (by decide) ?_
          exact ih4 w4 w5 _ (lv_sub hl [2, 3, 1, 0] rfl) hd
        · have hd := if_n c3 hd
          refine lv_iconst (v := (0 : Int32)) (pc := 16) hx hb dX1_manyThere_16 (by decide) ?_
          refine lv_goto (pc := 17) (tgt := 21) hx hb dX1_manyThere_17 (by decide) ?_
          refine lv_iadd (pc := 21) hx hb dX1_manyThere_21 ?_
          obtain ⟨w6, ew6, hd⟩ := bs_let_spec hd
          refine lv_topE (pc := 22) ew6 ?_
          refine lv_istore_n (pc := 22) (lv' := [(2, .int w6), (0, .ref (h 7)), (1, .int a1), (3, .int x3)]) hx hb dX1_manyThere_22 rfl hl (by decide) rfl (fun ls hl => ?_)
          obtain ⟨w7, ew7, hd⟩ := bs_let_spec hd
          refine lv_iinc (pc := 23) (v := w7) (lv' := [(3, .int w7), (2, .int w6), (0, .ref (h 7)), (1, .int a1)]) hx hb dX1_manyThere_23 hl (k := 3) rfl (by rw [ew7]; rfl) (by decide) rfl (fun ls hl => ?_)
          refine lv_goto (pc := 26) (tgt := 4) hx hb dX1_manyThere_26 (by decide) ?_
          exact ih4 w6 w7 _ (lv_sub hl [2, 3, 1, 0] rfl) hd
  unfold M_manyThere_textLong at hd
  refine lv_iconst (v := (0 : Int32)) (pc := 0) hx hb dX1_manyThere_0 (by decide) ?_
  refine lv_istore_n (pc := 1) (lv' := [(2, .int (0 : Int32)), (0, .ref (h 7)), (1, .int a1)]) hx hb dX1_manyThere_1 rfl hl (by decide) rfl (fun ls hl => ?_)
  refine lv_iconst (v := (0 : Int32)) (pc := 2) hx hb dX1_manyThere_2 (by decide) ?_
  refine lv_istore_n (pc := 3) (lv' := [(3, .int (0 : Int32)), (2, .int (0 : Int32)), (0, .ref (h 7)), (1, .int a1)]) hx hb dX1_manyThere_3 rfl hl (by decide) rfl (fun ls hl => ?_)
  exact h4 bs_fu (0 : Int32) (0 : Int32) _ (lv_sub hl [2, 3, 1, 0] rfl) hd
section CR_M_manyThere_textLong
variable {p : Program} {l : Launch} {e : Env} {R : Room} {s : State} {m : MethodId} {args : Array Value} {below : List Frame} {meth : Method} {c : Code} {H : Heap} {locs : List Loc} {cells slots : Nat} {Q : State → Prop}
variable {cc : ByteArray} {pc nL idx : Nat} {ls : Array Slot} {rest : List Value} {lv : List (Nat × Value)} {A : Nat → Prop} {H0 : Heap} {own : String}
theorem call_M_manyThere_textLong {D : va_G} {ct : Nat → ClassId} {h : Nat → Nat} {st : MS} {a1 : Int32} {z : Int32} (S : CallFix p m c cc nL s args lw_all own) (hl : lv_has ls nL lv) (hK : va_K D clA (tysG ct) s) (hH : GH D A (mAs h) H0 (WM ct h st) H locs) (hlk : Cond.methodLink own idx yX1_manyThere ∈ lw_all) (hv : M_manyThere_textLong st a1 = some z) (hR : 1 ≤ R.frames ∧ 23 ≤ R.locals) (hsum : (rest.map fun v => v.category).sum ≤ 8) (hdg : decode cc pc = .ok (.invokestatic idx, 3)) (hf : cells ≤ R.cells ∧ slots ≤ R.slots)
    (k : W p l e R s m args below meth c H locs cells slots Q (F0 m (pc + 3) ls (.int z :: rest))) : W p l e R s m args below meth c H locs cells slots Q (F0 m pc ls (.int a1 :: .ref (h 7) :: rest)) :=
  r_callsi (av := [.ref (h 7), .int a1]) S hl gE_0_ok trivial hK hH (met_M_manyThere_textLong l D ct h H.size st a1 z hv) (lw_S hlk q1327 q70 q1328) rfl rfl ⟨by decide, by decide, by show (parseMethodDescriptor yX1_manyThere.desc).map (fun d => d.parameters.length) = some 2; decide +kernel⟩ hR rfl hsum hdg hf k
end CR_M_manyThere_textLong
/-! CapCouncilModel.counted (I)I -/
def M_counted_J170 (st : MS) (a1 : Int32) (y0 : Int32) (y1 : Int32) : Option Int32 :=
  (bs_ld (ma st 2) 3 (2 : Int32)).bind fun v27 =>
  if v27 = 0 then
    (some ((y1 + y0) + (0 : Int32)))
  else
    (some ((y1 + y0) + (1 : Int32)))
def M_counted_J156 (st : MS) (a1 : Int32) (y0 : Int32) : Option Int32 :=
  (bs_ld (ma st 2) 3 (1 : Int32)).bind fun v25 =>
  if v25 = 0 then
    (M_counted_J170 st a1 (0 : Int32) y0)
  else
    (M_counted_J170 st a1 (1 : Int32) y0)
def M_counted (st : MS) (a1 : Int32) : Option Int32 :=
  if a1 = (0 : Int32) then
    ((bs_ld (ma st 0) 84 (0 : Int32)).bind fun v2 =>
    some v2)
  else
  if a1 = (1 : Int32) then
    ((bs_ld (ma st 0) 84 (1 : Int32)).bind fun v4 =>
    some v4)
  else
  if a1 = (2 : Int32) then
    ((bs_ld (ma st 0) 84 (29 : Int32)).bind fun v6 =>
    some v6)
  else
  if a1 = (3 : Int32) then
    ((bs_ld (ma st 0) 84 (70 : Int32)).bind fun v8 =>
    some v8)
  else
  if a1 = (4 : Int32) then
    ((bs_ld (ma st 0) 84 (71 : Int32)).bind fun v10 =>
    some v10)
  else
  if a1 = (5 : Int32) then
    ((bs_ld (ma st 0) 84 (71 : Int32)).bind fun v12 =>
    (M_bedsBy st v12).bind fun v13 =>
    some v13)
  else
  if a1 = (6 : Int32) then
    ((bs_ld (ma st 0) 84 (71 : Int32)).bind fun v15 =>
    (M_decidedBy st v15).bind fun v16 =>
    some v16)
  else
  if a1 = (7 : Int32) then
    ((M_manyOld st).bind fun v18 =>
    some v18)
  else
  if a1 = (8 : Int32) then
    ((M_manyThere_rowLong st (6 : Int32)).bind fun v20 =>
    some v20)
  else
  if a1 = (9 : Int32) then
    ((M_manyThere_textLong st (4 : Int32)).bind fun v22 =>
    some v22)
  else
    ((bs_ld (ma st 2) 3 (0 : Int32)).bind fun v23 =>
    if v23 = 0 then
      (M_counted_J156 st a1 (0 : Int32))
    else
      (M_counted_J156 st a1 (1 : Int32)))
def rm_M_counted : Room := { frames := 5, cells := 0, slots := 0, locals := 121 }
set_option maxHeartbeats 4000000 in
set_option maxRecDepth 100000 in
theorem met_M_counted (l : Launch) (D : va_G) (ct : Nat → ClassId) (h : Nat → Nat) (sz : Nat) (st : MS) (a1 : Int32) (z : Int32) (hd : M_counted st a1 = some z) : Met l yX1_counted (ws_ yX1_counted cX1_counted 2 (some .int)) rm_M_counted (GPre gE_0 D ct (mAs h) (WM ct h st) sz [.ref (h 0), .int a1]) (vp_Si (fun r => r = z)) 0 0 (fun _ => False) := by
  refine g_met (cc := cX1_counted) (maxL := 2) (ret := (some .int)) (by decide) (Nat.le_of_ble_eq_true rfl) ?_
  intro p e U m args below meth c ls S hr hlk hK hH hE hsz hl
  have S : CallFix p m c cX1_counted 2 U args lw_all RX1 := S
  have hx := S.1
  have hb := S.2.1
  have hl : lv_has ls 2 [(0, .ref (h 0)), (1, .int a1)] := hl
  have h170 : ∀ (y0 : Int32) (y1 : Int32) (ls : Array Slot), lv_has ls 2 [(0, .ref (h 0)), (1, .int a1)] → M_counted_J170 st a1 y0 y1 = some z → W p l e rm_M_counted U m args below meth c U.heap [] 0 0 (MQ below (vp_Si (fun r => r = z)) args U 0 0 (fun _ => False)) (F0 m 170 ls [.int y0, .int y1]) := by
    intro y0 y1 ls hl hd
    unfold M_counted_J170 at hd
    refine lv_iadd (pc := 170) hx hb dX1_counted_170 ?_
    refine lv_aload_n (pc := 171) hx hb dX1_counted_171 rfl (lv_at hl 0 rfl) ?_
    refine mg_isKept (pc := 172) S hK hH dX1_counted_172 ?_
    refine lv_iconst (v := (2 : Int32)) (pc := 175) hx hb dX1_counted_175 (by decide) ?_
    obtain ⟨v27, hv27, hd⟩ := bs_bd hd
    refine ml_isKept (pc := 176) S hK hH hv27 dX1_counted_176 ?_
    refine lv_if_eq (pc := 177) (tgt := 184) hx hb dX1_counted_177 (by decide) (fun c28 => ?_) (fun c28 => ?_)
    · have hd := if_t c28 hd
      refine lv_iconst (v := (0 : Int32)) (pc := 184) hx hb dX1_counted_184 (by decide) ?_
      refine lv_iadd (pc := 185) hx hb dX1_counted_185 ?_
      exact r_iret hd S hr hlk dX1_counted_186
    · have hd := if_n c28 hd
      refine lv_iconst (v := (1 : Int32)) (pc := 180) hx hb dX1_counted_180 (by decide) ?_
      refine lv_goto (pc := 181) (tgt := 185) hx hb dX1_counted_181 (by decide) ?_
      refine lv_iadd (pc := 185) hx hb dX1_counted_185 ?_
      exact r_iret hd S hr hlk dX1_counted_186
  have h156 : ∀ (y0 : Int32) (ls : Array Slot), lv_has ls 2 [(0, .ref (h 0)), (1, .int a1)] → M_counted_J156 st a1 y0 = some z → W p l e rm_M_counted U m args below meth c U.heap [] 0 0 (MQ below (vp_Si (fun r => r = z)) args U 0 0 (fun _ => False)) (F0 m 156 ls [.int y0]) := by
    intro y0 ls hl hd
    unfold M_counted_J156 at hd
    refine lv_aload_n (pc := 156) hx hb dX1_counted_156 rfl (lv_at hl 0 rfl) ?_
    refine mg_isKept (pc := 157) S hK hH dX1_counted_157 ?_
    refine lv_iconst (v := (1 : Int32)) (pc := 160) hx hb dX1_counted_160 (by decide) ?_
    obtain ⟨v25, hv25, hd⟩ := bs_bd hd
    refine ml_isKept (pc := 161) S hK hH hv25 dX1_counted_161 ?_
    refine lv_if_eq (pc := 162) (tgt := 169) hx hb dX1_counted_162 (by decide) (fun c26 => ?_) (fun c26 => ?_)
    · have hd := if_t c26 hd
      refine lv_iconst (v := (0 : Int32)) (pc := 169) hx hb dX1_counted_169 (by decide) ?_
      exact h170 (0 : Int32) y0 _ (lv_sub hl [0, 1] rfl) hd
    · have hd := if_n c26 hd
      refine lv_iconst (v := (1 : Int32)) (pc := 165) hx hb dX1_counted_165 (by decide) ?_
      refine lv_goto (pc := 166) (tgt := 170) hx hb dX1_counted_166 (by decide) ?_
      exact h170 (1 : Int32) y0 _ (lv_sub hl [0, 1] rfl) hd
  unfold M_counted at hd
  refine lv_iload_n (pc := 0) hx hb dX1_counted_0 rfl (lv_at hl 1 rfl) ?_
  by_cases c1 : a1 = (0 : Int32)
  · have hd := if_t c1 hd
    refine lv_tabE (pc := 1) (off := 55) (tgt := 56) hx hb dX1_counted_1 c1 (by decide) (by decide) rfl (by decide) ?_
    refine lv_aload_n (pc := 56) hx hb dX1_counted_56 rfl (lv_at hl 0 rfl) ?_
    refine mg_now (pc := 57) S hK hH dX1_counted_57 ?_
    refine lv_iconst (v := (0 : Int32)) (pc := 60) hx hb dX1_counted_60 (by decide) ?_
    obtain ⟨v2, hv2, hd⟩ := bs_bd hd
    refine ml_now (pc := 61) S hK hH hv2 dX1_counted_61 ?_
    exact r_iret hd S hr hlk dX1_counted_62
  have hd := if_n c1 hd
  by_cases c3 : a1 = (1 : Int32)
  · have hd := if_t c3 hd
    refine lv_tabE (pc := 1) (off := 62) (tgt := 63) hx hb dX1_counted_1 c3 (by decide) (by decide) rfl (by decide) ?_
    refine lv_aload_n (pc := 63) hx hb dX1_counted_63 rfl (lv_at hl 0 rfl) ?_
    refine mg_now (pc := 64) S hK hH dX1_counted_64 ?_
    refine lv_iconst (v := (1 : Int32)) (pc := 67) hx hb dX1_counted_67 (by decide) ?_
    obtain ⟨v4, hv4, hd⟩ := bs_bd hd
    refine ml_now (pc := 68) S hK hH hv4 dX1_counted_68 ?_
    exact r_iret hd S hr hlk dX1_counted_69
  have hd := if_n c3 hd
  by_cases c5 : a1 = (2 : Int32)
  · have hd := if_t c5 hd
    refine lv_tabE (pc := 1) (off := 69) (tgt := 70) hx hb dX1_counted_1 c5 (by decide) (by decide) rfl (by decide) ?_
    refine lv_aload_n (pc := 70) hx hb dX1_counted_70 rfl (lv_at hl 0 rfl) ?_
    refine mg_now (pc := 71) S hK hH dX1_counted_71 ?_
    refine lv_bipush (v := (29 : Int32)) (pc := 74) hx hb dX1_counted_74 (by decide) ?_
    obtain ⟨v6, hv6, hd⟩ := bs_bd hd
    refine ml_now (pc := 76) S hK hH hv6 dX1_counted_76 ?_
    exact r_iret hd S hr hlk dX1_counted_77
  have hd := if_n c5 hd
  by_cases c7 : a1 = (3 : Int32)
  · have hd := if_t c7 hd
    refine lv_tabE (pc := 1) (off := 77) (tgt := 78) hx hb dX1_counted_1 c7 (by decide) (by decide) rfl (by decide) ?_
    refine lv_aload_n (pc := 78) hx hb dX1_counted_78 rfl (lv_at hl 0 rfl) ?_
    refine mg_now (pc := 79) S hK hH dX1_counted_79 ?_
    refine lv_bipush (v := (70 : Int32)) (pc := 82) hx hb dX1_counted_82 (by decide) ?_
    obtain ⟨v8, hv8, hd⟩ := bs_bd hd
    refine ml_now (pc := 84) S hK hH hv8 dX1_counted_84 ?_
    exact r_iret hd S hr hlk dX1_counted_85
  have hd := if_n c7 hd
  by_cases c9 : a1 = (4 : Int32)
  · have hd := if_t c9 hd
    refine lv_tabE (pc := 1) (off := 85) (tgt := 86) hx hb dX1_counted_1 c9 (by decide) (by decide) rfl (by decide) ?_
    refine lv_aload_n (pc := 86) hx hb dX1_counted_86 rfl (lv_at hl 0 rfl) ?_
    refine mg_now (pc := 87) S hK hH dX1_counted_87 ?_
    refine lv_bipush (v := (71 : Int32)) (pc := 90) hx hb dX1_counted_90 (by decide) ?_
    obtain ⟨v10, hv10, hd⟩ := bs_bd hd
    refine ml_now (pc := 92) S hK hH hv10 dX1_counted_92 ?_
    exact r_iret hd S hr hlk dX1_counted_93
  have hd := if_n c9 hd
  by_cases c11 : a1 = (5 : Int32)
  · have hd := if_t c11 hd
    refine lv_tabE (pc := 1) (off := 93) (tgt := 94) hx hb dX1_counted_1 c11 (by decide) (by decide) rfl (by decide) ?_
    refine lv_aload_n (pc := 94) hx hb dX1_counted_94 rfl (lv_at hl 0 rfl) ?_
    refine lv_aload_n (pc := 95) hx hb dX1_counted_95 rfl (lv_at hl 0 rfl) ?_
    refine mg_now (pc := 96) S hK hH dX1_counted_96 ?_
    refine lv_bipush (v := (71 : Int32)) (pc := 99) hx hb dX1_counted_99 (by decide) ?_
    obtain ⟨v12, hv12, hd⟩ := bs_bd hd
    refine ml_now (pc := 101) S hK hH hv12 dX1_counted_101 ?_
    obtain ⟨v13, hv13, hd⟩ := bs_bd hd
    refine call_M_bedsBy (pc := 102) S hl hK hH q1154 hv13 ⟨Nat.le_of_ble_eq_true rfl, Nat.le_of_ble_eq_true rfl⟩ (Nat.le_of_ble_eq_true rfl) dX1_counted_102 ⟨Nat.zero_le _, Nat.zero_le _⟩ ?_
    exact r_iret hd S hr hlk dX1_counted_105
  have hd := if_n c11 hd
  by_cases c14 : a1 = (6 : Int32)
  · have hd := if_t c14 hd
    refine lv_tabE (pc := 1) (off := 105) (tgt := 106) hx hb dX1_counted_1 c14 (by decide) (by decide) rfl (by decide) ?_
    refine lv_aload_n (pc := 106) hx hb dX1_counted_106 rfl (lv_at hl 0 rfl) ?_
    refine lv_aload_n (pc := 107) hx hb dX1_counted_107 rfl (lv_at hl 0 rfl) ?_
    refine mg_now (pc := 108) S hK hH dX1_counted_108 ?_
    refine lv_bipush (v := (71 : Int32)) (pc := 111) hx hb dX1_counted_111 (by decide) ?_
    obtain ⟨v15, hv15, hd⟩ := bs_bd hd
    refine ml_now (pc := 113) S hK hH hv15 dX1_counted_113 ?_
    obtain ⟨v16, hv16, hd⟩ := bs_bd hd
    refine call_M_decidedBy (pc := 114) S hl hK hH q1232 hv16 ⟨Nat.le_of_ble_eq_true rfl, Nat.le_of_ble_eq_true rfl⟩ (Nat.le_of_ble_eq_true rfl) dX1_counted_114 ⟨Nat.zero_le _, Nat.zero_le _⟩ ?_
    exact r_iret hd S hr hlk dX1_counted_117
  have hd := if_n c14 hd
  by_cases c17 : a1 = (7 : Int32)
  · have hd := if_t c17 hd
    refine lv_tabE (pc := 1) (off := 117) (tgt := 118) hx hb dX1_counted_1 c17 (by decide) (by decide) rfl (by decide) ?_
    refine lv_aload_n (pc := 118) hx hb dX1_counted_118 rfl (lv_at hl 0 rfl) ?_
    obtain ⟨v18, hv18, hd⟩ := bs_bd hd
    refine call_M_manyOld (pc := 119) S hl hK hH q1322 hv18 ⟨Nat.le_of_ble_eq_true rfl, Nat.le_of_ble_eq_true rfl⟩ (Nat.le_of_ble_eq_true rfl) dX1_counted_119 ⟨Nat.zero_le _, Nat.zero_le _⟩ ?_
    exact r_iret hd S hr hlk dX1_counted_122
  have hd := if_n c17 hd
  by_cases c19 : a1 = (8 : Int32)
  · have hd := if_t c19 hd
    refine lv_tabE (pc := 1) (off := 122) (tgt := 123) hx hb dX1_counted_1 c19 (by decide) (by decide) rfl (by decide) ?_
    refine lv_aload_n (pc := 123) hx hb dX1_counted_123 rfl (lv_at hl 0 rfl) ?_
    refine mg_rowLong (pc := 124) S hK hH dX1_counted_124 ?_
    refine lv_bipush (v := (6 : Int32)) (pc := 127) hx hb dX1_counted_127 (by decide) ?_
    obtain ⟨v20, hv20, hd⟩ := bs_bd hd
    refine call_M_manyThere_rowLong (pc := 129) S hl hK hH q1326 hv20 ⟨Nat.le_of_ble_eq_true rfl, Nat.le_of_ble_eq_true rfl⟩ (Nat.le_of_ble_eq_true rfl) dX1_counted_129 ⟨Nat.zero_le _, Nat.zero_le _⟩ ?_
    exact r_iret hd S hr hlk dX1_counted_132
  have hd := if_n c19 hd
  by_cases c21 : a1 = (9 : Int32)
  · have hd := if_t c21 hd
    refine lv_tabE (pc := 1) (off := 132) (tgt := 133) hx hb dX1_counted_1 c21 (by decide) (by decide) rfl (by decide) ?_
    refine lv_aload_n (pc := 133) hx hb dX1_counted_133 rfl (lv_at hl 0 rfl) ?_
    refine mg_textLong (pc := 134) S hK hH dX1_counted_134 ?_
    refine lv_iconst (v := (4 : Int32)) (pc := 137) hx hb dX1_counted_137 (by decide) ?_
    obtain ⟨v22, hv22, hd⟩ := bs_bd hd
    refine call_M_manyThere_textLong (pc := 138) S hl hK hH q1326 hv22 ⟨Nat.le_of_ble_eq_true rfl, Nat.le_of_ble_eq_true rfl⟩ (Nat.le_of_ble_eq_true rfl) dX1_counted_138 ⟨Nat.zero_le _, Nat.zero_le _⟩ ?_
    exact r_iret hd S hr hlk dX1_counted_141
  have hd := if_n c21 hd
  refine lv_tableOut (pc := 1) (tgt := 142) hx hb dX1_counted_1 (by have zc1 := lv_neT c1 (a := 0) (by decide); have zc3 := lv_neT c3 (a := 1) (by decide); have zc5 := lv_neT c5 (a := 2) (by decide); have zc7 := lv_neT c7 (a := 3) (by decide); have zc9 := lv_neT c9 (a := 4) (by decide); have zc11 := lv_neT c11 (a := 5) (by decide); have zc14 := lv_neT c14 (a := 6) (by decide); have zc17 := lv_neT c17 (a := 7) (by decide); have zc19 := lv_neT c19 (a := 8) (by decide); have zc21 := lv_neT c21 (a := 9) (by decide); omega) (by decide) ?_
  refine lv_aload_n (pc := 142) hx hb dX1_counted_142 rfl (lv_at hl 0 rfl) ?_
  refine mg_isKept (pc := 143) S hK hH dX1_counted_143 ?_
  refine lv_iconst (v := (0 : Int32)) (pc := 146) hx hb dX1_counted_146 (by decide) ?_
  obtain ⟨v23, hv23, hd⟩ := bs_bd hd
  refine ml_isKept (pc := 147) S hK hH hv23 dX1_counted_147 ?_
  refine lv_if_eq (pc := 148) (tgt := 155) hx hb dX1_counted_148 (by decide) (fun c24 => ?_) (fun c24 => ?_)
  · have hd := if_t c24 hd
    refine lv_iconst (v := (0 : Int32)) (pc := 155) hx hb dX1_counted_155 (by decide) ?_
    exact h156 (0 : Int32) _ (lv_sub hl [0, 1] rfl) hd
  · have hd := if_n c24 hd
    refine lv_iconst (v := (1 : Int32)) (pc := 151) hx hb dX1_counted_151 (by decide) ?_
    refine lv_goto (pc := 152) (tgt := 156) hx hb dX1_counted_152 (by decide) ?_
    exact h156 (1 : Int32) _ (lv_sub hl [0, 1] rfl) hd
section CR_M_counted
variable {p : Program} {l : Launch} {e : Env} {R : Room} {s : State} {m : MethodId} {args : Array Value} {below : List Frame} {meth : Method} {c : Code} {H : Heap} {locs : List Loc} {cells slots : Nat} {Q : State → Prop}
variable {cc : ByteArray} {pc nL idx : Nat} {ls : Array Slot} {rest : List Value} {lv : List (Nat × Value)} {A : Nat → Prop} {H0 : Heap} {own : String}
theorem call_M_counted {D : va_G} {ct : Nat → ClassId} {h : Nat → Nat} {st : MS} {a1 : Int32} {z : Int32} (S : CallFix p m c cc nL s args lw_all own) (hl : lv_has ls nL lv) (hK : va_K D clA (tysG ct) s) (hH : GH D A (mAs h) H0 (WM ct h st) H locs) (hlk : Cond.methodLink own idx yX1_counted ∈ lw_all) (hv : M_counted st a1 = some z) (hR : 6 ≤ R.frames ∧ 142 ≤ R.locals) (hsum : (rest.map fun v => v.category).sum ≤ 8) (hdg : decode cc pc = .ok (.invokevirtual idx, 3)) (hf : cells ≤ R.cells ∧ slots ≤ R.slots)
    (k : W p l e R s m args below meth c H locs cells slots Q (F0 m (pc + 3) ls (.int z :: rest))) : W p l e R s m args below meth c H locs cells slots Q (F0 m pc ls (.int a1 :: .ref (h 0) :: rest)) :=
  r_calli (av := [.int a1]) S hl gE_0_ok trivial hK hH (met_M_counted l D ct h H.size st a1 z hv) (lw_V hlk q1320 qs66 q70 q1321) rfl rfl ⟨rfl, by decide, by decide, by show (parseMethodDescriptor yX1_counted.desc).map (fun d => d.parameters.length) = some 1; decide +kernel⟩ hR (m_recv hK hH) rfl hsum hdg hf k
end CR_M_counted
/-! CapCouncilModel.count (I)I -/
def M_count (st : MS) (a1 : Int32) : Option Int32 :=
  (M_in (a1.toInt64) (0 : Int64) (10 : Int64)).bind fun v1 =>
  if v1 = 0 then
    (some (-1 : Int32))
  else
    ((M_counted st a1).bind fun v3 =>
    some v3)
def rm_M_count : Room := { frames := 6, cells := 0, slots := 0, locals := 142 }
set_option maxHeartbeats 4000000 in
set_option maxRecDepth 100000 in
theorem met_M_count (l : Launch) (D : va_G) (ct : Nat → ClassId) (h : Nat → Nat) (sz : Nat) (st : MS) (a1 : Int32) (z : Int32) (hd : M_count st a1 = some z) : Met l yX1_count (ws_ yX1_count cX1_count 2 (some .int)) rm_M_count (GPre gE_0 D ct (mAs h) (WM ct h st) sz [.ref (h 0), .int a1]) (vp_Si (fun r => r = z)) 0 0 (fun _ => False) := by
  refine g_met (cc := cX1_count) (maxL := 2) (ret := (some .int)) (by decide) (Nat.le_of_ble_eq_true rfl) ?_
  intro p e U m args below meth c ls S hr hlk hK hH hE hsz hl
  have S : CallFix p m c cX1_count 2 U args lw_all RX1 := S
  have hx := S.1
  have hb := S.2.1
  have hl : lv_has ls 2 [(0, .ref (h 0)), (1, .int a1)] := hl
  unfold M_count at hd
  refine lv_iload_n (pc := 0) hx hb dX1_count_0 rfl (lv_at hl 1 rfl) ?_
  refine lv_i2l (pc := 1) hx hb dX1_count_1 rfl ?_
  refine lv_lconst (v := (0 : Int64)) (pc := 2) hx hb dX1_count_2 (by decide) ?_
  refine lv_ldc2 (pc := 3) (own := RX1) (v := (10 : Int64)) hx hb S.2.2.2.1 (S.2.2.2.2 _ q1317) dX1_count_3 ?_
  obtain ⟨v1, hv1, hd⟩ := bs_bd hd
  refine call_M_in (pc := 6) S hl q974 hv1 ⟨Nat.le_of_ble_eq_true rfl, Nat.le_of_ble_eq_true rfl⟩ (Nat.le_of_ble_eq_true rfl) dX1_count_6 ⟨Nat.zero_le _, Nat.zero_le _⟩ ?_
  refine lv_if_eq (pc := 9) (tgt := 20) hx hb dX1_count_9 (by decide) (fun c2 => ?_) (fun c2 => ?_)
  · have hd := if_t c2 hd
    refine lv_iconst (v := (-1 : Int32)) (pc := 20) hx hb dX1_count_20 (by decide) ?_
    exact r_iret hd S hr hlk dX1_count_21
  · have hd := if_n c2 hd
    refine lv_aload_n (pc := 12) hx hb dX1_count_12 rfl (lv_at hl 0 rfl) ?_
    refine lv_iload_n (pc := 13) hx hb dX1_count_13 rfl (lv_at hl 1 rfl) ?_
    obtain ⟨v3, hv3, hd⟩ := bs_bd hd
    refine call_M_counted (pc := 14) S hl hK hH q1318 hv3 ⟨Nat.le_of_ble_eq_true rfl, Nat.le_of_ble_eq_true rfl⟩ (Nat.le_of_ble_eq_true rfl) dX1_count_14 ⟨Nat.zero_le _, Nat.zero_le _⟩ ?_
    refine lv_goto (pc := 17) (tgt := 21) hx hb dX1_count_17 (by decide) ?_
    exact r_iret hd S hr hlk dX1_count_21
section CR_M_count
variable {p : Program} {l : Launch} {e : Env} {R : Room} {s : State} {m : MethodId} {args : Array Value} {below : List Frame} {meth : Method} {c : Code} {H : Heap} {locs : List Loc} {cells slots : Nat} {Q : State → Prop}
variable {cc : ByteArray} {pc nL idx : Nat} {ls : Array Slot} {rest : List Value} {lv : List (Nat × Value)} {A : Nat → Prop} {H0 : Heap} {own : String}
theorem call_M_count {D : va_G} {ct : Nat → ClassId} {h : Nat → Nat} {st : MS} {a1 : Int32} {z : Int32} (S : CallFix p m c cc nL s args lw_all own) (hl : lv_has ls nL lv) (hK : va_K D clA (tysG ct) s) (hH : GH D A (mAs h) H0 (WM ct h st) H locs) (hlk : Cond.methodLink own idx yX1_count ∈ lw_all) (hv : M_count st a1 = some z) (hR : 7 ≤ R.frames ∧ 163 ≤ R.locals) (hsum : (rest.map fun v => v.category).sum ≤ 8) (hdg : decode cc pc = .ok (.invokevirtual idx, 3)) (hf : cells ≤ R.cells ∧ slots ≤ R.slots)
    (k : W p l e R s m args below meth c H locs cells slots Q (F0 m (pc + 3) ls (.int z :: rest))) : W p l e R s m args below meth c H locs cells slots Q (F0 m pc ls (.int a1 :: .ref (h 0) :: rest)) :=
  r_calli (av := [.int a1]) S hl gE_0_ok trivial hK hH (met_M_count l D ct h H.size st a1 z hv) (lw_V hlk q1314 q1315 q70 q1316) rfl rfl ⟨rfl, by decide, by decide, by show (parseMethodDescriptor yX1_count.desc).map (fun d => d.parameters.length) = some 1; decide +kernel⟩ hR (m_recv hK hH) rfl hsum hdg hf k
end CR_M_count
/-! CapCouncilModel.finding ()I -/
def M_finding (st : MS) : Option Int32 :=
  some (mi st 0)
def rm_M_finding : Room := { frames := 0, cells := 0, slots := 0, locals := 0 }
set_option maxHeartbeats 4000000 in
set_option maxRecDepth 100000 in
theorem met_M_finding (l : Launch) (D : va_G) (ct : Nat → ClassId) (h : Nat → Nat) (sz : Nat) (st : MS) (z : Int32) (hd : M_finding st = some z) : Met l yX1_finding (ws_ yX1_finding cX1_finding 1 (some .int)) rm_M_finding (GPre gE_0 D ct (mAs h) (WM ct h st) sz [.ref (h 0)]) (vp_Si (fun r => r = z)) 0 0 (fun _ => False) := by
  refine g_met (cc := cX1_finding) (maxL := 1) (ret := (some .int)) (by decide) (Nat.le_of_ble_eq_true rfl) ?_
  intro p e U m args below meth c ls S hr hlk hK hH hE hsz hl
  have S : CallFix p m c cX1_finding 1 U args lw_all RX1 := S
  have hx := S.1
  have hb := S.2.1
  have hl : lv_has ls 1 [(0, .ref (h 0))] := hl
  unfold M_finding at hd
  refine lv_aload_n (pc := 0) hx hb dX1_finding_0 rfl (lv_at hl 0 rfl) ?_
  refine mg_latest (pc := 1) S hK hH dX1_finding_1 ?_
  exact r_iret hd S hr hlk dX1_finding_4
section CR_M_finding
variable {p : Program} {l : Launch} {e : Env} {R : Room} {s : State} {m : MethodId} {args : Array Value} {below : List Frame} {meth : Method} {c : Code} {H : Heap} {locs : List Loc} {cells slots : Nat} {Q : State → Prop}
variable {cc : ByteArray} {pc nL idx : Nat} {ls : Array Slot} {rest : List Value} {lv : List (Nat × Value)} {A : Nat → Prop} {H0 : Heap} {own : String}
theorem call_M_finding {D : va_G} {ct : Nat → ClassId} {h : Nat → Nat} {st : MS} {z : Int32} (S : CallFix p m c cc nL s args lw_all own) (hl : lv_has ls nL lv) (hK : va_K D clA (tysG ct) s) (hH : GH D A (mAs h) H0 (WM ct h st) H locs) (hlk : Cond.methodLink own idx yX1_finding ∈ lw_all) (hv : M_finding st = some z) (hR : 1 ≤ R.frames ∧ 20 ≤ R.locals) (hsum : (rest.map fun v => v.category).sum ≤ 8) (hdg : decode cc pc = .ok (.invokevirtual idx, 3)) (hf : cells ≤ R.cells ∧ slots ≤ R.slots)
    (k : W p l e R s m args below meth c H locs cells slots Q (F0 m (pc + 3) ls (.int z :: rest))) : W p l e R s m args below meth c H locs cells slots Q (F0 m pc ls (.ref (h 0) :: rest)) :=
  r_calli (av := []) S hl gE_0_ok trivial hK hH (met_M_finding l D ct h H.size st z hv) (lw_V hlk q1330 q1331 q70 q1332) rfl rfl ⟨rfl, by decide, by decide, by show (parseMethodDescriptor yX1_finding.desc).map (fun d => d.parameters.length) = some 0; decide +kernel⟩ hR (m_recv hK hH) rfl hsum hdg hf k
end CR_M_finding
/-! CapCouncilModel.findings (I)I -/
def M_findings (st : MS) (a1 : Int32) : Option Int32 :=
  (M_in (a1.toInt64) (1 : Int64) (5 : Int64)).bind fun v1 =>
  if v1 = 0 then
    (some (-1 : Int32))
  else
    ((bs_ld (ma st 7) 6 a1).bind fun v3 =>
    some v3)
def rm_M_findings : Room := { frames := 1, cells := 0, slots := 0, locals := 25 }
set_option maxHeartbeats 4000000 in
set_option maxRecDepth 100000 in
theorem met_M_findings (l : Launch) (D : va_G) (ct : Nat → ClassId) (h : Nat → Nat) (sz : Nat) (st : MS) (a1 : Int32) (z : Int32) (hd : M_findings st a1 = some z) : Met l yX1_findings (ws_ yX1_findings cX1_findings 2 (some .int)) rm_M_findings (GPre gE_0 D ct (mAs h) (WM ct h st) sz [.ref (h 0), .int a1]) (vp_Si (fun r => r = z)) 0 0 (fun _ => False) := by
  refine g_met (cc := cX1_findings) (maxL := 2) (ret := (some .int)) (by decide) (Nat.le_of_ble_eq_true rfl) ?_
  intro p e U m args below meth c ls S hr hlk hK hH hE hsz hl
  have S : CallFix p m c cX1_findings 2 U args lw_all RX1 := S
  have hx := S.1
  have hb := S.2.1
  have hl : lv_has ls 2 [(0, .ref (h 0)), (1, .int a1)] := hl
  unfold M_findings at hd
  refine lv_iload_n (pc := 0) hx hb dX1_findings_0 rfl (lv_at hl 1 rfl) ?_
  refine lv_i2l (pc := 1) hx hb dX1_findings_1 rfl ?_
  refine lv_lconst (v := (1 : Int64)) (pc := 2) hx hb dX1_findings_2 (by decide) ?_
  refine lv_ldc2 (pc := 3) (own := RX1) (v := (5 : Int64)) hx hb S.2.2.2.1 (S.2.2.2.2 _ q973) dX1_findings_3 ?_
  obtain ⟨v1, hv1, hd⟩ := bs_bd hd
  refine call_M_in (pc := 6) S hl q974 hv1 ⟨Nat.le_of_ble_eq_true rfl, Nat.le_of_ble_eq_true rfl⟩ (Nat.le_of_ble_eq_true rfl) dX1_findings_6 ⟨Nat.zero_le _, Nat.zero_le _⟩ ?_
  refine lv_if_eq (pc := 9) (tgt := 21) hx hb dX1_findings_9 (by decide) (fun c2 => ?_) (fun c2 => ?_)
  · have hd := if_t c2 hd
    refine lv_iconst (v := (-1 : Int32)) (pc := 21) hx hb dX1_findings_21 (by decide) ?_
    exact r_iret hd S hr hlk dX1_findings_22
  · have hd := if_n c2 hd
    refine lv_aload_n (pc := 12) hx hb dX1_findings_12 rfl (lv_at hl 0 rfl) ?_
    refine mg_found (pc := 13) S hK hH dX1_findings_13 ?_
    refine lv_iload_n (pc := 16) hx hb dX1_findings_16 rfl (lv_at hl 1 rfl) ?_
    obtain ⟨v3, hv3, hd⟩ := bs_bd hd
    refine ml_found (pc := 17) S hK hH hv3 dX1_findings_17 ?_
    refine lv_goto (pc := 18) (tgt := 22) hx hb dX1_findings_18 (by decide) ?_
    exact r_iret hd S hr hlk dX1_findings_22
section CR_M_findings
variable {p : Program} {l : Launch} {e : Env} {R : Room} {s : State} {m : MethodId} {args : Array Value} {below : List Frame} {meth : Method} {c : Code} {H : Heap} {locs : List Loc} {cells slots : Nat} {Q : State → Prop}
variable {cc : ByteArray} {pc nL idx : Nat} {ls : Array Slot} {rest : List Value} {lv : List (Nat × Value)} {A : Nat → Prop} {H0 : Heap} {own : String}
theorem call_M_findings {D : va_G} {ct : Nat → ClassId} {h : Nat → Nat} {st : MS} {a1 : Int32} {z : Int32} (S : CallFix p m c cc nL s args lw_all own) (hl : lv_has ls nL lv) (hK : va_K D clA (tysG ct) s) (hH : GH D A (mAs h) H0 (WM ct h st) H locs) (hlk : Cond.methodLink own idx yX1_findings ∈ lw_all) (hv : M_findings st a1 = some z) (hR : 2 ≤ R.frames ∧ 46 ≤ R.locals) (hsum : (rest.map fun v => v.category).sum ≤ 8) (hdg : decode cc pc = .ok (.invokevirtual idx, 3)) (hf : cells ≤ R.cells ∧ slots ≤ R.slots)
    (k : W p l e R s m args below meth c H locs cells slots Q (F0 m (pc + 3) ls (.int z :: rest))) : W p l e R s m args below meth c H locs cells slots Q (F0 m pc ls (.int a1 :: .ref (h 0) :: rest)) :=
  r_calli (av := [.int a1]) S hl gE_0_ok trivial hK hH (met_M_findings l D ct h H.size st a1 z hv) (lw_V hlk q1334 q1335 q70 q1336) rfl rfl ⟨rfl, by decide, by decide, by show (parseMethodDescriptor yX1_findings.desc).map (fun d => d.parameters.length) = some 1; decide +kernel⟩ hR (m_recv hK hH) rfl hsum hdg hf k
end CR_M_findings
/-! CapCouncilModel.digest ()J -/
def M_digest_L6 (k33 : Int64 → Int32 → Option Int64) (st : MS) : Nat → Int64 → Int32 → Option Int64
  | 0, _, _ => none
  | n + 1, x1, x3 =>
    if (11 : Int32) ≤ x3 then
      (k33 x1 (0 : Int32))
    else
      ((M_counted st x3).bind fun v2 =>
      bs_let (((31 : Int64) * x1) + (v2.toInt64)) fun w3 =>
      bs_let (x3 + (1 : Int32)) fun w4 =>
      M_digest_L6 k33 st n w3 w4)
def M_digest_L46 (k33 : Int64 → Int32 → Option Int64) (st : MS) : Nat → Int64 → Int32 → Int32 → Option Int64
  | 0, _, _, _ => none
  | n + 1, x1, x3, x4 =>
    if (7 : Int32) ≤ x4 then
      (bs_let (x3 + (1 : Int32)) fun w10 =>
      k33 x1 w10)
    else
      ((M_toldOfRing st x3 x4).bind fun v11 =>
      bs_let (((31 : Int64) * x1) + (v11.toInt64)) fun w12 =>
      bs_let (x4 + (1 : Int32)) fun w13 =>
      M_digest_L46 k33 st n w12 x3 w13)
def M_digest_L33 (k82 : Int64 → Int32 → Option Int64) (st : MS) : Nat → Int64 → Int32 → Option Int64
  | 0, _, _ => none
  | n + 1, x1, x3 =>
    (bs_ld (ma st 0) 84 (0 : Int32)).bind fun v5 =>
    if v5 ≤ x3 then
      (k82 x1 (0 : Int32))
    else
      (M_digest_L46 (M_digest_L33 k82 st n) st bs_fu x1 x3 (0 : Int32))
def M_digest_L95 (k82 : Int64 → Int32 → Option Int64) (st : MS) : Nat → Int64 → Int32 → Int32 → Option Int64
  | 0, _, _, _ => none
  | n + 1, x1, x3, x4 =>
    if (3 : Int32) ≤ x4 then
      (bs_let (x3 + (1 : Int32)) fun w23 =>
      k82 x1 w23)
    else
      ((M_toldOfBed st x3 x4).bind fun v24 =>
      bs_let (((31 : Int64) * x1) + (v24.toInt64)) fun w25 =>
      bs_let (x4 + (1 : Int32)) fun w26 =>
      M_digest_L95 k82 st n w25 x3 w26)
def M_digest_L82 (k130 : Int64 → Int32 → Option Int64) (st : MS) : Nat → Int64 → Int32 → Option Int64
  | 0, _, _ => none
  | n + 1, x1, x3 =>
    (bs_ld (ma st 0) 84 (1 : Int32)).bind fun v7 =>
    if v7 ≤ x3 then
      (k130 x1 (0 : Int32))
    else
      (M_digest_L95 (M_digest_L82 k130 st n) st bs_fu x1 x3 (0 : Int32))
def M_digest_L130 (k176 : Int64 → Int32 → Option Int64) (st : MS) : Nat → Int64 → Int32 → Option Int64
  | 0, _, _ => none
  | n + 1, x1, x3 =>
    if (3 : Int32) ≤ x3 then
      (k176 x1 (0 : Int32))
    else
      ((bs_ld (ma st 2) 3 x3).bind fun v15 =>
      if v15 = 0 then
        (bs_let (((31 : Int64) * x1) + (((-1 : Int32)).toInt64)) fun w17 =>
        bs_let (x3 + (1 : Int32)) fun w18 =>
        M_digest_L130 k176 st n w17 w18)
      else
        ((bs_ld (ma st 1) 252 (((84 : Int32) * x3) + (29 : Int32))).bind fun v19 =>
        bs_let (((31 : Int64) * x1) + (v19.toInt64)) fun w20 =>
        bs_let (x3 + (1 : Int32)) fun w21 =>
        M_digest_L130 k176 st n w20 w21))
def M_digest_L199 (k176 : Int64 → Int32 → Option Int64) (st : MS) : Nat → Int64 → Int32 → Int32 → Option Int64
  | 0, _, _, _ => none
  | n + 1, x1, x3, x4 =>
    (bs_ld (ma st 4) 6 x3).bind fun v33 =>
    if v33 ≤ x4 then
      (bs_let (x3 + (1 : Int32)) fun w35 =>
      k176 x1 w35)
    else
      ((bs_ld (ma st 3) 240 (((40 : Int32) * x3) + x4)).bind fun v36 =>
      bs_let (((31 : Int64) * x1) + (v36.toInt64)) fun w37 =>
      bs_let (x4 + (1 : Int32)) fun w38 =>
      M_digest_L199 k176 st n w37 x3 w38)
def M_digest_L176 (k244 : Int64 → Int32 → Option Int64) (st : MS) : Nat → Int64 → Int32 → Option Int64
  | 0, _, _ => none
  | n + 1, x1, x3 =>
    if (6 : Int32) ≤ x3 then
      (k244 x1 (0 : Int32))
    else
      ((bs_ld (ma st 4) 6 x3).bind fun v28 =>
      bs_let (((31 : Int64) * x1) + (v28.toInt64)) fun w29 =>
      M_digest_L199 (M_digest_L176 k244 st n) st bs_fu w29 x3 (0 : Int32))
def M_digest_L266 (k244 : Int64 → Int32 → Option Int64) (st : MS) : Nat → Int64 → Int32 → Int32 → Option Int64
  | 0, _, _, _ => none
  | n + 1, x1, x3, x4 =>
    (bs_ld (ma st 6) 4 x3).bind fun v39 =>
    if v39 ≤ x4 then
      (bs_let (x3 + (1 : Int32)) fun w41 =>
      k244 x1 w41)
    else
      ((bs_ld (ma st 5) 240 (((60 : Int32) * x3) + x4)).bind fun v42 =>
      bs_let (((31 : Int64) * x1) + (v42.toInt64)) fun w43 =>
      bs_let (x4 + (1 : Int32)) fun w44 =>
      M_digest_L266 k244 st n w43 x3 w44)
def M_digest_L244 (st : MS) : Nat → Int64 → Int32 → Option Int64
  | 0, _, _ => none
  | n + 1, x1, x3 =>
    if (4 : Int32) ≤ x3 then
      (some x1)
    else
      ((bs_ld (ma st 6) 4 x3).bind fun v31 =>
      bs_let (((31 : Int64) * x1) + (v31.toInt64)) fun w32 =>
      M_digest_L266 (M_digest_L244 st n) st bs_fu w32 x3 (0 : Int32))
def M_digest (st : MS) : Option Int64 :=
  M_digest_L6 (M_digest_L33 (M_digest_L82 (M_digest_L130 (M_digest_L176 (M_digest_L244 st bs_fu) st bs_fu) st bs_fu) st bs_fu) st bs_fu) st bs_fu (17 : Int64) (0 : Int32)
def rm_M_digest : Room := { frames := 6, cells := 0, slots := 0, locals := 142 }
set_option maxHeartbeats 4000000 in
set_option maxRecDepth 100000 in
theorem met_M_digest (l : Launch) (D : va_G) (ct : Nat → ClassId) (h : Nat → Nat) (sz : Nat) (st : MS) (z : Int64) (hd : M_digest st = some z) : Met l yX1_digest (ws_ yX1_digest cX1_digest 5 (some .long)) rm_M_digest (GPre gE_0 D ct (mAs h) (WM ct h st) sz [.ref (h 0)]) (vp_Sl (fun r => r = z)) 0 0 (fun _ => False) := by
  refine g_met (cc := cX1_digest) (maxL := 5) (ret := (some .long)) (by decide) (Nat.le_of_ble_eq_true rfl) ?_
  intro p e U m args below meth c ls S hr hlk hK hH hE hsz hl
  have S : CallFix p m c cX1_digest 5 U args lw_all RX1 := S
  have hx := S.1
  have hb := S.2.1
  have hl : lv_has ls 5 [(0, .ref (h 0))] := hl
  have h244 : ∀ (n244 : Nat) (x1 : Int64) (x3 : Int32) (ls : Array Slot), lv_has ls 5 [(0, .ref (h 0)), (1, .long x1), (3, .int x3)] → M_digest_L244 st n244 x1 x3 = some z → W p l e rm_M_digest U m args below meth c U.heap [] 0 0 (MQ below (vp_Sl (fun r => r = z)) args U 0 0 (fun _ => False)) (F0 m 244 ls []) := by
    intro n244
    induction n244 with
    | zero =>
      intro x1 x3 ls hl hd
      rw [M_digest_L244] at hd
      cases hd
    | succ n244 ih244 =>
      have h266 : ∀ (n266 : Nat) (x1 : Int64) (x3 : Int32) (x4 : Int32) (ls : Array Slot), lv_has ls 5 [(0, .ref (h 0)), (1, .long x1), (3, .int x3), (4, .int x4)] → M_digest_L266 (M_digest_L244 st n244) st n266 x1 x3 x4 = some z → W p l e rm_M_digest U m args below meth c U.heap [] 0 0 (MQ below (vp_Sl (fun r => r = z)) args U 0 0 (fun _ => False)) (F0 m 266 ls []) := by
        intro n266
        induction n266 with
        | zero =>
          intro x1 x3 x4 ls hl hd
          rw [M_digest_L266] at hd
          cases hd
        | succ n266 ih266 =>
          intro x1 x3 x4 ls hl hd
          rw [M_digest_L266] at hd
          refine lv_iload (pc := 266) hx hb dX1_digest_266 (lv_at hl 3 rfl) ?_
          refine lv_aload_n (pc := 268) hx hb dX1_digest_268 rfl (lv_at hl 0 rfl) ?_
          refine mg_textLong (pc := 269) S hK hH dX1_digest_269 ?_
          refine lv_iload_n (pc := 272) hx hb dX1_digest_272 rfl (lv_at hl 2 rfl) ?_
          obtain ⟨v39, hv39, hd⟩ := bs_bd hd
          refine ml_textLong (pc := 273) S hK hH hv39 dX1_digest_273 ?_
          refine lv_icmp_ge (pc := 274) (tgt := 303) hx hb dX1_digest_274 (by decide) (fun c40 => ?_) (fun c40 => ?_)
          · have hd := if_t c40 hd
            obtain ⟨w41, ew41, hd⟩ := bs_let_spec hd
            refine lv_iinc (pc := 303) (v := w41) (lv' := [(3, .int w41), (0, .ref (h 0)), (1, .long x1), (4, .int x4)]) hx hb dX1_digest_303 hl (k := 2) rfl (by rw [ew41]; rfl) (by decide) rfl (fun ls hl => ?_)
            refine lv_goto (pc := 306) (tgt := 244) hx hb dX1_digest_306 (by decide) ?_
            exact ih244 x1 w41 _ (lv_sub hl [1, 2, 0] rfl) hd
          · have hd := if_n c40 hd
            refine lv_ldc2 (pc := 277) (own := RX1) (v := (31 : Int64)) hx hb S.2.2.2.1 (S.2.2.2.2 _ q1342) dX1_digest_277 ?_
            refine lv_lload_n (pc := 280) hx hb dX1_digest_280 rfl (lv_at hl 1 rfl) ?_
            refine lv_lmul (pc := 281) hx hb dX1_digest_281 ?_
            refine lv_aload_n (pc := 282) hx hb dX1_digest_282 rfl (lv_at hl 0 rfl) ?_
            refine mg_texts (pc := 283) S hK hH dX1_digest_283 ?_
            refine lv_bipush (v := (60 : Int32)) (pc := 286) hx hb dX1_digest_286 (by decide) ?_
            refine lv_iload_n (pc := 288) hx hb dX1_digest_288 rfl (lv_at hl 2 rfl) ?_
            refine lv_imul (pc := 289) hx hb dX1_digest_289 ?_
            refine lv_iload (pc := 290) hx hb dX1_digest_290 (lv_at hl 3 rfl) ?_
            refine lv_iadd (pc := 292) hx hb dX1_digest_292 ?_
            obtain ⟨v42, hv42, hd⟩ := bs_bd hd
            refine ml_texts (pc := 293) S hK hH hv42 dX1_digest_293 ?_
            refine lv_i2l (pc := 294) hx hb dX1_digest_294 rfl ?_
            refine lv_ladd (pc := 295) hx hb dX1_digest_295 ?_
            obtain ⟨w43, ew43, hd⟩ := bs_let_spec hd
            refine lv_topEl (pc := 296) ew43 ?_
            refine lv_lstore_n (pc := 296) (lv' := [(1, .long w43), (0, .ref (h 0)), (3, .int x3), (4, .int x4)]) hx hb dX1_digest_296 rfl hl (by decide) rfl (fun ls hl => ?_)
            obtain ⟨w44, ew44, hd⟩ := bs_let_spec hd
            refine lv_iinc (pc := 297) (v := w44) (lv' := [(4, .int w44), (1, .long w43), (0, .ref (h 0)), (3, .int x3)]) hx hb dX1_digest_297 hl (k := 3) rfl (by rw [ew44]; rfl) (by decide) rfl (fun ls hl => ?_)
            refine lv_goto (pc := 300) (tgt := 266) hx hb dX1_digest_300 (by decide) ?_
            exact ih266 w43 x3 w44 _ (lv_sub hl [2, 1, 3, 0] rfl) hd
      intro x1 x3 ls hl hd
      rw [M_digest_L244] at hd
      refine lv_iload_n (pc := 244) hx hb dX1_digest_244 rfl (lv_at hl 2 rfl) ?_
      refine lv_iconst (v := (4 : Int32)) (pc := 245) hx hb dX1_digest_245 (by decide) ?_
      refine lv_icmp_ge (pc := 246) (tgt := 309) hx hb dX1_digest_246 (by decide) (fun c30 => ?_) (fun c30 => ?_)
      · have hd := if_t c30 hd
        refine lv_lload_n (pc := 309) hx hb dX1_digest_309 rfl (lv_at hl 1 rfl) ?_
        exact r_lret hd S hr hlk dX1_digest_310
      · have hd := if_n c30 hd
        refine lv_ldc2 (pc := 249) (own := RX1) (v := (31 : Int64)) hx hb S.2.2.2.1 (S.2.2.2.2 _ q1342) dX1_digest_249 ?_
        refine lv_lload_n (pc := 252) hx hb dX1_digest_252 rfl (lv_at hl 1 rfl) ?_
        refine lv_lmul (pc := 253) hx hb dX1_digest_253 ?_
        refine lv_aload_n (pc := 254) hx hb dX1_digest_254 rfl (lv_at hl 0 rfl) ?_
        refine mg_textLong (pc := 255) S hK hH dX1_digest_255 ?_
        refine lv_iload_n (pc := 258) hx hb dX1_digest_258 rfl (lv_at hl 2 rfl) ?_
        obtain ⟨v31, hv31, hd⟩ := bs_bd hd
        refine ml_textLong (pc := 259) S hK hH hv31 dX1_digest_259 ?_
        refine lv_i2l (pc := 260) hx hb dX1_digest_260 rfl ?_
        refine lv_ladd (pc := 261) hx hb dX1_digest_261 ?_
        obtain ⟨w32, ew32, hd⟩ := bs_let_spec hd
        refine lv_topEl (pc := 262) ew32 ?_
        refine lv_lstore_n (pc := 262) (lv' := [(1, .long w32), (0, .ref (h 0)), (3, .int x3)]) hx hb dX1_digest_262 rfl hl (by decide) rfl (fun ls hl => ?_)
        refine lv_iconst (v := (0 : Int32)) (pc := 263) hx hb dX1_digest_263 (by decide) ?_
        refine lv_istore (pc := 264) (lv' := [(4, .int (0 : Int32)), (1, .long w32), (0, .ref (h 0)), (3, .int x3)]) hx hb dX1_digest_264 hl (by decide) rfl (fun ls hl => ?_)
        exact h266 bs_fu w32 x3 (0 : Int32) _ (lv_sub hl [2, 1, 3, 0] rfl) hd
  have h176 : ∀ (n176 : Nat) (x1 : Int64) (x3 : Int32) (ls : Array Slot), lv_has ls 5 [(0, .ref (h 0)), (1, .long x1), (3, .int x3)] → M_digest_L176 (M_digest_L244 st bs_fu) st n176 x1 x3 = some z → W p l e rm_M_digest U m args below meth c U.heap [] 0 0 (MQ below (vp_Sl (fun r => r = z)) args U 0 0 (fun _ => False)) (F0 m 176 ls []) := by
    intro n176
    induction n176 with
    | zero =>
      intro x1 x3 ls hl hd
      rw [M_digest_L176] at hd
      cases hd
    | succ n176 ih176 =>
      have h199 : ∀ (n199 : Nat) (x1 : Int64) (x3 : Int32) (x4 : Int32) (ls : Array Slot), lv_has ls 5 [(0, .ref (h 0)), (1, .long x1), (3, .int x3), (4, .int x4)] → M_digest_L199 (M_digest_L176 (M_digest_L244 st bs_fu) st n176) st n199 x1 x3 x4 = some z → W p l e rm_M_digest U m args below meth c U.heap [] 0 0 (MQ below (vp_Sl (fun r => r = z)) args U 0 0 (fun _ => False)) (F0 m 199 ls []) := by
        intro n199
        induction n199 with
        | zero =>
          intro x1 x3 x4 ls hl hd
          rw [M_digest_L199] at hd
          cases hd
        | succ n199 ih199 =>
          intro x1 x3 x4 ls hl hd
          rw [M_digest_L199] at hd
          refine lv_iload (pc := 199) hx hb dX1_digest_199 (lv_at hl 3 rfl) ?_
          refine lv_aload_n (pc := 201) hx hb dX1_digest_201 rfl (lv_at hl 0 rfl) ?_
          refine mg_rowLong (pc := 202) S hK hH dX1_digest_202 ?_
          refine lv_iload_n (pc := 205) hx hb dX1_digest_205 rfl (lv_at hl 2 rfl) ?_
          obtain ⟨v33, hv33, hd⟩ := bs_bd hd
          refine ml_rowLong (pc := 206) S hK hH hv33 dX1_digest_206 ?_
          refine lv_icmp_ge (pc := 207) (tgt := 236) hx hb dX1_digest_207 (by decide) (fun c34 => ?_) (fun c34 => ?_)
          · have hd := if_t c34 hd
            obtain ⟨w35, ew35, hd⟩ := bs_let_spec hd
            refine lv_iinc (pc := 236) (v := w35) (lv' := [(3, .int w35), (0, .ref (h 0)), (1, .long x1), (4, .int x4)]) hx hb dX1_digest_236 hl (k := 2) rfl (by rw [ew35]; rfl) (by decide) rfl (fun ls hl => ?_)
            refine lv_goto (pc := 239) (tgt := 176) hx hb dX1_digest_239 (by decide) ?_
            exact ih176 x1 w35 _ (lv_sub hl [1, 2, 0] rfl) hd
          · have hd := if_n c34 hd
            refine lv_ldc2 (pc := 210) (own := RX1) (v := (31 : Int64)) hx hb S.2.2.2.1 (S.2.2.2.2 _ q1342) dX1_digest_210 ?_
            refine lv_lload_n (pc := 213) hx hb dX1_digest_213 rfl (lv_at hl 1 rfl) ?_
            refine lv_lmul (pc := 214) hx hb dX1_digest_214 ?_
            refine lv_aload_n (pc := 215) hx hb dX1_digest_215 rfl (lv_at hl 0 rfl) ?_
            refine mg_rows (pc := 216) S hK hH dX1_digest_216 ?_
            refine lv_bipush (v := (40 : Int32)) (pc := 219) hx hb dX1_digest_219 (by decide) ?_
            refine lv_iload_n (pc := 221) hx hb dX1_digest_221 rfl (lv_at hl 2 rfl) ?_
            refine lv_imul (pc := 222) hx hb dX1_digest_222 ?_
            refine lv_iload (pc := 223) hx hb dX1_digest_223 (lv_at hl 3 rfl) ?_
            refine lv_iadd (pc := 225) hx hb dX1_digest_225 ?_
            obtain ⟨v36, hv36, hd⟩ := bs_bd hd
            refine ml_rows (pc := 226) S hK hH hv36 dX1_digest_226 ?_
            refine lv_i2l (pc := 227) hx hb dX1_digest_227 rfl ?_
            refine lv_ladd (pc := 228) hx hb dX1_digest_228 ?_
            obtain ⟨w37, ew37, hd⟩ := bs_let_spec hd
            refine lv_topEl (pc := 229) ew37 ?_
            refine lv_lstore_n (pc := 229) (lv' := [(1, .long w37), (0, .ref (h 0)), (3, .int x3), (4, .int x4)]) hx hb dX1_digest_229 rfl hl (by decide) rfl (fun ls hl => ?_)
            obtain ⟨w38, ew38, hd⟩ := bs_let_spec hd
            refine lv_iinc (pc := 230) (v := w38) (lv' := [(4, .int w38), (1, .long w37), (0, .ref (h 0)), (3, .int x3)]) hx hb dX1_digest_230 hl (k := 3) rfl (by rw [ew38]; rfl) (by decide) rfl (fun ls hl => ?_)
            refine lv_goto (pc := 233) (tgt := 199) hx hb dX1_digest_233 (by decide) ?_
            exact ih199 w37 x3 w38 _ (lv_sub hl [2, 1, 3, 0] rfl) hd
      intro x1 x3 ls hl hd
      rw [M_digest_L176] at hd
      refine lv_iload_n (pc := 176) hx hb dX1_digest_176 rfl (lv_at hl 2 rfl) ?_
      refine lv_bipush (v := (6 : Int32)) (pc := 177) hx hb dX1_digest_177 (by decide) ?_
      refine lv_icmp_ge (pc := 179) (tgt := 242) hx hb dX1_digest_179 (by decide) (fun c27 => ?_) (fun c27 => ?_)
      · have hd := if_t c27 hd
        refine lv_iconst (v := (0 : Int32)) (pc := 242) hx hb dX1_digest_242 (by decide) ?_
        refine lv_istore_n (pc := 243) (lv' := [(3, .int (0 : Int32)), (0, .ref (h 0)), (1, .long x1)]) hx hb dX1_digest_243 rfl hl (by decide) rfl (fun ls hl => ?_)
        exact h244 bs_fu x1 (0 : Int32) _ (lv_sub hl [1, 2, 0] rfl) hd
      · have hd := if_n c27 hd
        refine lv_ldc2 (pc := 182) (own := RX1) (v := (31 : Int64)) hx hb S.2.2.2.1 (S.2.2.2.2 _ q1342) dX1_digest_182 ?_
        refine lv_lload_n (pc := 185) hx hb dX1_digest_185 rfl (lv_at hl 1 rfl) ?_
        refine lv_lmul (pc := 186) hx hb dX1_digest_186 ?_
        refine lv_aload_n (pc := 187) hx hb dX1_digest_187 rfl (lv_at hl 0 rfl) ?_
        refine mg_rowLong (pc := 188) S hK hH dX1_digest_188 ?_
        refine lv_iload_n (pc := 191) hx hb dX1_digest_191 rfl (lv_at hl 2 rfl) ?_
        obtain ⟨v28, hv28, hd⟩ := bs_bd hd
        refine ml_rowLong (pc := 192) S hK hH hv28 dX1_digest_192 ?_
        refine lv_i2l (pc := 193) hx hb dX1_digest_193 rfl ?_
        refine lv_ladd (pc := 194) hx hb dX1_digest_194 ?_
        obtain ⟨w29, ew29, hd⟩ := bs_let_spec hd
        refine lv_topEl (pc := 195) ew29 ?_
        refine lv_lstore_n (pc := 195) (lv' := [(1, .long w29), (0, .ref (h 0)), (3, .int x3)]) hx hb dX1_digest_195 rfl hl (by decide) rfl (fun ls hl => ?_)
        refine lv_iconst (v := (0 : Int32)) (pc := 196) hx hb dX1_digest_196 (by decide) ?_
        refine lv_istore (pc := 197) (lv' := [(4, .int (0 : Int32)), (1, .long w29), (0, .ref (h 0)), (3, .int x3)]) hx hb dX1_digest_197 hl (by decide) rfl (fun ls hl => ?_)
        exact h199 bs_fu w29 x3 (0 : Int32) _ (lv_sub hl [2, 1, 3, 0] rfl) hd
  have h130 : ∀ (n130 : Nat) (x1 : Int64) (x3 : Int32) (ls : Array Slot), lv_has ls 5 [(0, .ref (h 0)), (1, .long x1), (3, .int x3)] → M_digest_L130 (M_digest_L176 (M_digest_L244 st bs_fu) st bs_fu) st n130 x1 x3 = some z → W p l e rm_M_digest U m args below meth c U.heap [] 0 0 (MQ below (vp_Sl (fun r => r = z)) args U 0 0 (fun _ => False)) (F0 m 130 ls []) := by
    intro n130
    induction n130 with
    | zero =>
      intro x1 x3 ls hl hd
      rw [M_digest_L130] at hd
      cases hd
    | succ n130 ih130 =>
      intro x1 x3 ls hl hd
      rw [M_digest_L130] at hd
      refine lv_iload_n (pc := 130) hx hb dX1_digest_130 rfl (lv_at hl 2 rfl) ?_
      refine lv_iconst (v := (3 : Int32)) (pc := 131) hx hb dX1_digest_131 (by decide) ?_
      refine lv_icmp_ge (pc := 132) (tgt := 174) hx hb dX1_digest_132 (by decide) (fun c14 => ?_) (fun c14 => ?_)
      · have hd := if_t c14 hd
        refine lv_iconst (v := (0 : Int32)) (pc := 174) hx hb dX1_digest_174 (by decide) ?_
        refine lv_istore_n (pc := 175) (lv' := [(3, .int (0 : Int32)), (0, .ref (h 0)), (1, .long x1)]) hx hb dX1_digest_175 rfl hl (by decide) rfl (fun ls hl => ?_)
        exact h176 bs_fu x1 (0 : Int32) _ (lv_sub hl [1, 2, 0] rfl) hd
      · have hd := if_n c14 hd
        refine lv_ldc2 (pc := 135) (own := RX1) (v := (31 : Int64)) hx hb S.2.2.2.1 (S.2.2.2.2 _ q1342) dX1_digest_135 ?_
        refine lv_lload_n (pc := 138) hx hb dX1_digest_138 rfl (lv_at hl 1 rfl) ?_
        refine lv_lmul (pc := 139) hx hb dX1_digest_139 ?_
        refine lv_aload_n (pc := 140) hx hb dX1_digest_140 rfl (lv_at hl 0 rfl) ?_
        refine mg_isKept (pc := 141) S hK hH dX1_digest_141 ?_
        refine lv_iload_n (pc := 144) hx hb dX1_digest_144 rfl (lv_at hl 2 rfl) ?_
        obtain ⟨v15, hv15, hd⟩ := bs_bd hd
        refine ml_isKept (pc := 145) S hK hH hv15 dX1_digest_145 ?_
        refine lv_if_eq (pc := 146) (tgt := 164) hx hb dX1_digest_146 (by decide) (fun c16 => ?_) (fun c16 => ?_)
        · have hd := if_t c16 hd
          refine lv_iconst (v := (-1 : Int32)) (pc := 164) hx hb dX1_digest_164 (by decide) ?_
          refine lv_i2l (pc := 165) hx hb dX1_digest_165 rfl ?_
          refine lv_ladd (pc := 166) hx hb dX1_digest_166 ?_
          obtain ⟨w17, ew17, hd⟩ := bs_let_spec hd
          refine lv_topEl (pc := 167) ew17 ?_
          refine lv_lstore_n (pc := 167) (lv' := [(1, .long w17), (0, .ref (h 0)), (3, .int x3)]) hx hb dX1_digest_167 rfl hl (by decide) rfl (fun ls hl => ?_)
          obtain ⟨w18, ew18, hd⟩ := bs_let_spec hd
          refine lv_iinc (pc := 168) (v := w18) (lv' := [(3, .int w18), (1, .long w17), (0, .ref (h 0))]) hx hb dX1_digest_168 hl (k := 2) rfl (by rw [ew18]; rfl) (by decide) rfl (fun ls hl => ?_)
          refine lv_goto (pc := 171) (tgt := 130) hx hb dX1_digest_171 (by decide) ?_
          exact ih130 w17 w18 _ (lv_sub hl [2, 1, 0] rfl) hd
        · have hd := if_n c16 hd
          refine lv_aload_n (pc := 149) hx hb dX1_digest_149 rfl (lv_at hl 0 rfl) ?_
          refine mg_kept (pc := 150) S hK hH dX1_digest_150 ?_
          refine lv_bipush (v := (84 : Int32)) (pc := 153) hx hb dX1_digest_153 (by decide) ?_
          refine lv_iload_n (pc := 155) hx hb dX1_digest_155 rfl (lv_at hl 2 rfl) ?_
          refine lv_imul (pc := 156) hx hb dX1_digest_156 ?_
          refine lv_bipush (v := (29 : Int32)) (pc := 157) hx hb dX1_digest_157 (by decide) ?_
          refine lv_iadd (pc := 159) hx hb dX1_digest_159 ?_
          obtain ⟨v19, hv19, hd⟩ := bs_bd hd
          refine ml_kept (pc := 160) S hK hH hv19 dX1_digest_160 ?_
          refine lv_goto (pc := 161) (tgt := 165) hx hb dX1_digest_161 (by decide) ?_
          refine lv_i2l (pc := 165) hx hb dX1_digest_165 rfl ?_
          refine lv_ladd (pc := 166) hx hb dX1_digest_166 ?_
          obtain ⟨w20, ew20, hd⟩ := bs_let_spec hd
          refine lv_topEl (pc := 167) ew20 ?_
          refine lv_lstore_n (pc := 167) (lv' := [(1, .long w20), (0, .ref (h 0)), (3, .int x3)]) hx hb dX1_digest_167 rfl hl (by decide) rfl (fun ls hl => ?_)
          obtain ⟨w21, ew21, hd⟩ := bs_let_spec hd
          refine lv_iinc (pc := 168) (v := w21) (lv' := [(3, .int w21), (1, .long w20), (0, .ref (h 0))]) hx hb dX1_digest_168 hl (k := 2) rfl (by rw [ew21]; rfl) (by decide) rfl (fun ls hl => ?_)
          refine lv_goto (pc := 171) (tgt := 130) hx hb dX1_digest_171 (by decide) ?_
          exact ih130 w20 w21 _ (lv_sub hl [2, 1, 0] rfl) hd
  have h82 : ∀ (n82 : Nat) (x1 : Int64) (x3 : Int32) (ls : Array Slot), lv_has ls 5 [(0, .ref (h 0)), (1, .long x1), (3, .int x3)] → M_digest_L82 (M_digest_L130 (M_digest_L176 (M_digest_L244 st bs_fu) st bs_fu) st bs_fu) st n82 x1 x3 = some z → W p l e rm_M_digest U m args below meth c U.heap [] 0 0 (MQ below (vp_Sl (fun r => r = z)) args U 0 0 (fun _ => False)) (F0 m 82 ls []) := by
    intro n82
    induction n82 with
    | zero =>
      intro x1 x3 ls hl hd
      rw [M_digest_L82] at hd
      cases hd
    | succ n82 ih82 =>
      have h95 : ∀ (n95 : Nat) (x1 : Int64) (x3 : Int32) (x4 : Int32) (ls : Array Slot), lv_has ls 5 [(0, .ref (h 0)), (1, .long x1), (3, .int x3), (4, .int x4)] → M_digest_L95 (M_digest_L82 (M_digest_L130 (M_digest_L176 (M_digest_L244 st bs_fu) st bs_fu) st bs_fu) st n82) st n95 x1 x3 x4 = some z → W p l e rm_M_digest U m args below meth c U.heap [] 0 0 (MQ below (vp_Sl (fun r => r = z)) args U 0 0 (fun _ => False)) (F0 m 95 ls []) := by
        intro n95
        induction n95 with
        | zero =>
          intro x1 x3 x4 ls hl hd
          rw [M_digest_L95] at hd
          cases hd
        | succ n95 ih95 =>
          intro x1 x3 x4 ls hl hd
          rw [M_digest_L95] at hd
          refine lv_iload (pc := 95) hx hb dX1_digest_95 (lv_at hl 3 rfl) ?_
          refine lv_iconst (v := (3 : Int32)) (pc := 97) hx hb dX1_digest_97 (by decide) ?_
          refine lv_icmp_ge (pc := 98) (tgt := 122) hx hb dX1_digest_98 (by decide) (fun c22 => ?_) (fun c22 => ?_)
          · have hd := if_t c22 hd
            obtain ⟨w23, ew23, hd⟩ := bs_let_spec hd
            refine lv_iinc (pc := 122) (v := w23) (lv' := [(3, .int w23), (0, .ref (h 0)), (1, .long x1), (4, .int x4)]) hx hb dX1_digest_122 hl (k := 2) rfl (by rw [ew23]; rfl) (by decide) rfl (fun ls hl => ?_)
            refine lv_goto (pc := 125) (tgt := 82) hx hb dX1_digest_125 (by decide) ?_
            exact ih82 x1 w23 _ (lv_sub hl [1, 2, 0] rfl) hd
          · have hd := if_n c22 hd
            refine lv_ldc2 (pc := 101) (own := RX1) (v := (31 : Int64)) hx hb S.2.2.2.1 (S.2.2.2.2 _ q1342) dX1_digest_101 ?_
            refine lv_lload_n (pc := 104) hx hb dX1_digest_104 rfl (lv_at hl 1 rfl) ?_
            refine lv_lmul (pc := 105) hx hb dX1_digest_105 ?_
            refine lv_aload_n (pc := 106) hx hb dX1_digest_106 rfl (lv_at hl 0 rfl) ?_
            refine lv_iload_n (pc := 107) hx hb dX1_digest_107 rfl (lv_at hl 2 rfl) ?_
            refine lv_iload (pc := 108) hx hb dX1_digest_108 (lv_at hl 3 rfl) ?_
            obtain ⟨v24, hv24, hd⟩ := bs_bd hd
            refine call_M_toldOfBed (pc := 110) S hl hK hH q1108 hv24 ⟨Nat.le_of_ble_eq_true rfl, Nat.le_of_ble_eq_true rfl⟩ (Nat.le_of_ble_eq_true rfl) dX1_digest_110 ⟨Nat.zero_le _, Nat.zero_le _⟩ ?_
            refine lv_i2l (pc := 113) hx hb dX1_digest_113 rfl ?_
            refine lv_ladd (pc := 114) hx hb dX1_digest_114 ?_
            obtain ⟨w25, ew25, hd⟩ := bs_let_spec hd
            refine lv_topEl (pc := 115) ew25 ?_
            refine lv_lstore_n (pc := 115) (lv' := [(1, .long w25), (0, .ref (h 0)), (3, .int x3), (4, .int x4)]) hx hb dX1_digest_115 rfl hl (by decide) rfl (fun ls hl => ?_)
            obtain ⟨w26, ew26, hd⟩ := bs_let_spec hd
            refine lv_iinc (pc := 116) (v := w26) (lv' := [(4, .int w26), (1, .long w25), (0, .ref (h 0)), (3, .int x3)]) hx hb dX1_digest_116 hl (k := 3) rfl (by rw [ew26]; rfl) (by decide) rfl (fun ls hl => ?_)
            refine lv_goto (pc := 119) (tgt := 95) hx hb dX1_digest_119 (by decide) ?_
            exact ih95 w25 x3 w26 _ (lv_sub hl [2, 1, 3, 0] rfl) hd
      intro x1 x3 ls hl hd
      rw [M_digest_L82] at hd
      refine lv_iload_n (pc := 82) hx hb dX1_digest_82 rfl (lv_at hl 2 rfl) ?_
      refine lv_aload_n (pc := 83) hx hb dX1_digest_83 rfl (lv_at hl 0 rfl) ?_
      refine mg_now (pc := 84) S hK hH dX1_digest_84 ?_
      refine lv_iconst (v := (1 : Int32)) (pc := 87) hx hb dX1_digest_87 (by decide) ?_
      obtain ⟨v7, hv7, hd⟩ := bs_bd hd
      refine ml_now (pc := 88) S hK hH hv7 dX1_digest_88 ?_
      refine lv_icmp_ge (pc := 89) (tgt := 128) hx hb dX1_digest_89 (by decide) (fun c8 => ?_) (fun c8 => ?_)
      · have hd := if_t c8 hd
        refine lv_iconst (v := (0 : Int32)) (pc := 128) hx hb dX1_digest_128 (by decide) ?_
        refine lv_istore_n (pc := 129) (lv' := [(3, .int (0 : Int32)), (0, .ref (h 0)), (1, .long x1)]) hx hb dX1_digest_129 rfl hl (by decide) rfl (fun ls hl => ?_)
        exact h130 bs_fu x1 (0 : Int32) _ (lv_sub hl [1, 2, 0] rfl) hd
      · have hd := if_n c8 hd
        refine lv_iconst (v := (0 : Int32)) (pc := 92) hx hb dX1_digest_92 (by decide) ?_
        refine lv_istore (pc := 93) (lv' := [(4, .int (0 : Int32)), (0, .ref (h 0)), (1, .long x1), (3, .int x3)]) hx hb dX1_digest_93 hl (by decide) rfl (fun ls hl => ?_)
        exact h95 bs_fu x1 x3 (0 : Int32) _ (lv_sub hl [1, 2, 3, 0] rfl) hd
  have h33 : ∀ (n33 : Nat) (x1 : Int64) (x3 : Int32) (ls : Array Slot), lv_has ls 5 [(0, .ref (h 0)), (1, .long x1), (3, .int x3)] → M_digest_L33 (M_digest_L82 (M_digest_L130 (M_digest_L176 (M_digest_L244 st bs_fu) st bs_fu) st bs_fu) st bs_fu) st n33 x1 x3 = some z → W p l e rm_M_digest U m args below meth c U.heap [] 0 0 (MQ below (vp_Sl (fun r => r = z)) args U 0 0 (fun _ => False)) (F0 m 33 ls []) := by
    intro n33
    induction n33 with
    | zero =>
      intro x1 x3 ls hl hd
      rw [M_digest_L33] at hd
      cases hd
    | succ n33 ih33 =>
      have h46 : ∀ (n46 : Nat) (x1 : Int64) (x3 : Int32) (x4 : Int32) (ls : Array Slot), lv_has ls 5 [(0, .ref (h 0)), (1, .long x1), (3, .int x3), (4, .int x4)] → M_digest_L46 (M_digest_L33 (M_digest_L82 (M_digest_L130 (M_digest_L176 (M_digest_L244 st bs_fu) st bs_fu) st bs_fu) st bs_fu) st n33) st n46 x1 x3 x4 = some z → W p l e rm_M_digest U m args below meth c U.heap [] 0 0 (MQ below (vp_Sl (fun r => r = z)) args U 0 0 (fun _ => False)) (F0 m 46 ls []) := by
        intro n46
        induction n46 with
        | zero =>
          intro x1 x3 x4 ls hl hd
          rw [M_digest_L46] at hd
          cases hd
        | succ n46 ih46 =>
          intro x1 x3 x4 ls hl hd
          rw [M_digest_L46] at hd
          refine lv_iload (pc := 46) hx hb dX1_digest_46 (lv_at hl 3 rfl) ?_
          refine lv_bipush (v := (7 : Int32)) (pc := 48) hx hb dX1_digest_48 (by decide) ?_
          refine lv_icmp_ge (pc := 50) (tgt := 74) hx hb dX1_digest_50 (by decide) (fun c9 => ?_) (fun c9 => ?_)
          · have hd := if_t c9 hd
            obtain ⟨w10, ew10, hd⟩ := bs_let_spec hd
            refine lv_iinc (pc := 74) (v := w10) (lv' := [(3, .int w10), (0, .ref (h 0)), (1, .long x1), (4, .int x4)]) hx hb dX1_digest_74 hl (k := 2) rfl (by rw [ew10]; rfl) (by decide) rfl (fun ls hl => ?_)
            refine lv_goto (pc := 77) (tgt := 33) hx hb dX1_digest_77 (by decide) ?_
            exact ih33 x1 w10 _ (lv_sub hl [1, 2, 0] rfl) hd
          · have hd := if_n c9 hd
            refine lv_ldc2 (pc := 53) (own := RX1) (v := (31 : Int64)) hx hb S.2.2.2.1 (S.2.2.2.2 _ q1342) dX1_digest_53 ?_
            refine lv_lload_n (pc := 56) hx hb dX1_digest_56 rfl (lv_at hl 1 rfl) ?_
            refine lv_lmul (pc := 57) hx hb dX1_digest_57 ?_
            refine lv_aload_n (pc := 58) hx hb dX1_digest_58 rfl (lv_at hl 0 rfl) ?_
            refine lv_iload_n (pc := 59) hx hb dX1_digest_59 rfl (lv_at hl 2 rfl) ?_
            refine lv_iload (pc := 60) hx hb dX1_digest_60 (lv_at hl 3 rfl) ?_
            obtain ⟨v11, hv11, hd⟩ := bs_bd hd
            refine call_M_toldOfRing (pc := 62) S hl hK hH q1071 hv11 ⟨Nat.le_of_ble_eq_true rfl, Nat.le_of_ble_eq_true rfl⟩ (Nat.le_of_ble_eq_true rfl) dX1_digest_62 ⟨Nat.zero_le _, Nat.zero_le _⟩ ?_
            refine lv_i2l (pc := 65) hx hb dX1_digest_65 rfl ?_
            refine lv_ladd (pc := 66) hx hb dX1_digest_66 ?_
            obtain ⟨w12, ew12, hd⟩ := bs_let_spec hd
            refine lv_topEl (pc := 67) ew12 ?_
            refine lv_lstore_n (pc := 67) (lv' := [(1, .long w12), (0, .ref (h 0)), (3, .int x3), (4, .int x4)]) hx hb dX1_digest_67 rfl hl (by decide) rfl (fun ls hl => ?_)
            obtain ⟨w13, ew13, hd⟩ := bs_let_spec hd
            refine lv_iinc (pc := 68) (v := w13) (lv' := [(4, .int w13), (1, .long w12), (0, .ref (h 0)), (3, .int x3)]) hx hb dX1_digest_68 hl (k := 3) rfl (by rw [ew13]; rfl) (by decide) rfl (fun ls hl => ?_)
            refine lv_goto (pc := 71) (tgt := 46) hx hb dX1_digest_71 (by decide) ?_
            exact ih46 w12 x3 w13 _ (lv_sub hl [2, 1, 3, 0] rfl) hd
      intro x1 x3 ls hl hd
      rw [M_digest_L33] at hd
      refine lv_iload_n (pc := 33) hx hb dX1_digest_33 rfl (lv_at hl 2 rfl) ?_
      refine lv_aload_n (pc := 34) hx hb dX1_digest_34 rfl (lv_at hl 0 rfl) ?_
      refine mg_now (pc := 35) S hK hH dX1_digest_35 ?_
      refine lv_iconst (v := (0 : Int32)) (pc := 38) hx hb dX1_digest_38 (by decide) ?_
      obtain ⟨v5, hv5, hd⟩ := bs_bd hd
      refine ml_now (pc := 39) S hK hH hv5 dX1_digest_39 ?_
      refine lv_icmp_ge (pc := 40) (tgt := 80) hx hb dX1_digest_40 (by decide) (fun c6 => ?_) (fun c6 => ?_)
      · have hd := if_t c6 hd
        refine lv_iconst (v := (0 : Int32)) (pc := 80) hx hb dX1_digest_80 (by decide) ?_
        refine lv_istore_n (pc := 81) (lv' := [(3, .int (0 : Int32)), (0, .ref (h 0)), (1, .long x1)]) hx hb dX1_digest_81 rfl hl (by decide) rfl (fun ls hl => ?_)
        exact h82 bs_fu x1 (0 : Int32) _ (lv_sub hl [1, 2, 0] rfl) hd
      · have hd := if_n c6 hd
        refine lv_iconst (v := (0 : Int32)) (pc := 43) hx hb dX1_digest_43 (by decide) ?_
        refine lv_istore (pc := 44) (lv' := [(4, .int (0 : Int32)), (0, .ref (h 0)), (1, .long x1), (3, .int x3)]) hx hb dX1_digest_44 hl (by decide) rfl (fun ls hl => ?_)
        exact h46 bs_fu x1 x3 (0 : Int32) _ (lv_sub hl [1, 2, 3, 0] rfl) hd
  have h6 : ∀ (n6 : Nat) (x1 : Int64) (x3 : Int32) (ls : Array Slot), lv_has ls 5 [(0, .ref (h 0)), (1, .long x1), (3, .int x3)] → M_digest_L6 (M_digest_L33 (M_digest_L82 (M_digest_L130 (M_digest_L176 (M_digest_L244 st bs_fu) st bs_fu) st bs_fu) st bs_fu) st bs_fu) st n6 x1 x3 = some z → W p l e rm_M_digest U m args below meth c U.heap [] 0 0 (MQ below (vp_Sl (fun r => r = z)) args U 0 0 (fun _ => False)) (F0 m 6 ls []) := by
    intro n6
    induction n6 with
    | zero =>
      intro x1 x3 ls hl hd
      rw [M_digest_L6] at hd
      cases hd
    | succ n6 ih6 =>
      intro x1 x3 ls hl hd
      rw [M_digest_L6] at hd
      refine lv_iload_n (pc := 6) hx hb dX1_digest_6 rfl (lv_at hl 2 rfl) ?_
      refine lv_bipush (v := (11 : Int32)) (pc := 7) hx hb dX1_digest_7 (by decide) ?_
      refine lv_icmp_ge (pc := 9) (tgt := 31) hx hb dX1_digest_9 (by decide) (fun c1 => ?_) (fun c1 => ?_)
      · have hd := if_t c1 hd
        refine lv_iconst (v := (0 : Int32)) (pc := 31) hx hb dX1_digest_31 (by decide) ?_
        refine lv_istore_n (pc := 32) (lv' := [(3, .int (0 : Int32)), (0, .ref (h 0)), (1, .long x1)]) hx hb dX1_digest_32 rfl hl (by decide) rfl (fun ls hl => ?_)
        exact h33 bs_fu x1 (0 : Int32) _ (lv_sub hl [1, 2, 0] rfl) hd
      · have hd := if_n c1 hd
        refine lv_ldc2 (pc := 12) (own := RX1) (v := (31 : Int64)) hx hb S.2.2.2.1 (S.2.2.2.2 _ q1342) dX1_digest_12 ?_
        refine lv_lload_n (pc := 15) hx hb dX1_digest_15 rfl (lv_at hl 1 rfl) ?_
        refine lv_lmul (pc := 16) hx hb dX1_digest_16 ?_
        refine lv_aload_n (pc := 17) hx hb dX1_digest_17 rfl (lv_at hl 0 rfl) ?_
        refine lv_iload_n (pc := 18) hx hb dX1_digest_18 rfl (lv_at hl 2 rfl) ?_
        obtain ⟨v2, hv2, hd⟩ := bs_bd hd
        refine call_M_counted (pc := 19) S hl hK hH q1318 hv2 ⟨Nat.le_of_ble_eq_true rfl, Nat.le_of_ble_eq_true rfl⟩ (Nat.le_of_ble_eq_true rfl) dX1_digest_19 ⟨Nat.zero_le _, Nat.zero_le _⟩ ?_
        refine lv_i2l (pc := 22) hx hb dX1_digest_22 rfl ?_
        refine lv_ladd (pc := 23) hx hb dX1_digest_23 ?_
        obtain ⟨w3, ew3, hd⟩ := bs_let_spec hd
        refine lv_topEl (pc := 24) ew3 ?_
        refine lv_lstore_n (pc := 24) (lv' := [(1, .long w3), (0, .ref (h 0)), (3, .int x3)]) hx hb dX1_digest_24 rfl hl (by decide) rfl (fun ls hl => ?_)
        obtain ⟨w4, ew4, hd⟩ := bs_let_spec hd
        refine lv_iinc (pc := 25) (v := w4) (lv' := [(3, .int w4), (1, .long w3), (0, .ref (h 0))]) hx hb dX1_digest_25 hl (k := 2) rfl (by rw [ew4]; rfl) (by decide) rfl (fun ls hl => ?_)
        refine lv_goto (pc := 28) (tgt := 6) hx hb dX1_digest_28 (by decide) ?_
        exact ih6 w3 w4 _ (lv_sub hl [2, 1, 0] rfl) hd
  unfold M_digest at hd
  refine lv_ldc2 (pc := 0) (own := RX1) (v := (17 : Int64)) hx hb S.2.2.2.1 (S.2.2.2.2 _ q1341) dX1_digest_0 ?_
  refine lv_lstore_n (pc := 3) (lv' := [(1, .long (17 : Int64)), (0, .ref (h 0))]) hx hb dX1_digest_3 rfl hl (by decide) rfl (fun ls hl => ?_)
  refine lv_iconst (v := (0 : Int32)) (pc := 4) hx hb dX1_digest_4 (by decide) ?_
  refine lv_istore_n (pc := 5) (lv' := [(3, .int (0 : Int32)), (1, .long (17 : Int64)), (0, .ref (h 0))]) hx hb dX1_digest_5 rfl hl (by decide) rfl (fun ls hl => ?_)
  exact h6 bs_fu (17 : Int64) (0 : Int32) _ (lv_sub hl [2, 1, 0] rfl) hd
section CR_M_digest
variable {p : Program} {l : Launch} {e : Env} {R : Room} {s : State} {m : MethodId} {args : Array Value} {below : List Frame} {meth : Method} {c : Code} {H : Heap} {locs : List Loc} {cells slots : Nat} {Q : State → Prop}
variable {cc : ByteArray} {pc nL idx : Nat} {ls : Array Slot} {rest : List Value} {lv : List (Nat × Value)} {A : Nat → Prop} {H0 : Heap} {own : String}
theorem call_M_digest {D : va_G} {ct : Nat → ClassId} {h : Nat → Nat} {st : MS} {z : Int64} (S : CallFix p m c cc nL s args lw_all own) (hl : lv_has ls nL lv) (hK : va_K D clA (tysG ct) s) (hH : GH D A (mAs h) H0 (WM ct h st) H locs) (hlk : Cond.methodLink own idx yX1_digest ∈ lw_all) (hv : M_digest st = some z) (hR : 7 ≤ R.frames ∧ 166 ≤ R.locals) (hsum : (rest.map fun v => v.category).sum ≤ 8) (hdg : decode cc pc = .ok (.invokevirtual idx, 3)) (hf : cells ≤ R.cells ∧ slots ≤ R.slots)
    (k : W p l e R s m args below meth c H locs cells slots Q (F0 m (pc + 3) ls (.long z :: rest))) : W p l e R s m args below meth c H locs cells slots Q (F0 m pc ls (.ref (h 0) :: rest)) :=
  r_calll (av := []) S hl gE_0_ok trivial hK hH (met_M_digest l D ct h H.size st z hv) (lw_V hlk q1338 q1339 q70 q1340) rfl rfl ⟨rfl, by decide, by decide, by show (parseMethodDescriptor yX1_digest.desc).map (fun d => d.parameters.length) = some 0; decide +kernel⟩ hR (m_recv hK hH) rfl hsum hdg hf k
end CR_M_digest
