/-! by turns: a method that calls itself -/
set_option maxRecDepth 100000
def X_duelOn_L38 (rec : XS → Int32 → Int32 → Option (XS × Int32)) (a1 : Int32) (a2 : Int32) : Nat → XS → Int32 → Int32 → Int32 → Option (XS × Int32)
  | 0, _, _, _, _ => none
  | n + 1, st, x3, x4, x5 =>
    if (xi st 2) ≤ x5 then
      (some (st, x3))
    else
      ((X_has (xi st 8) x5).bind fun v7 =>
      if v7 = x4 then
        (bs_let ((xi st 8) ^^^ ((1 : Int32) <<< (x5 &&& 31))) fun w10 =>
        bs_let (sxi st 8 w10) fun s11 =>
        (rec s11 (a1 + (1 : Int32)) a2).bind fun q12 =>
        bs_let ((xi q12.1 8) ^^^ ((1 : Int32) <<< (x5 &&& 31))) fun w13 =>
        bs_let (sxi q12.1 8 w13) fun s14 =>
        if x4 = 0 then
          ((J9_max x3 q12.2).bind fun v16 =>
          bs_let (x5 + (1 : Int32)) fun w17 =>
          X_duelOn_L38 rec a1 a2 n s14 v16 x4 w17)
        else
          ((J9_min x3 q12.2).bind fun v18 =>
          bs_let (x5 + (1 : Int32)) fun w19 =>
          X_duelOn_L38 rec a1 a2 n s14 v18 x4 w19))
      else
        (bs_let (x5 + (1 : Int32)) fun w9 =>
        X_duelOn_L38 rec a1 a2 n st x3 x4 w9))
def X_duelOn_body (rec : XS → Int32 → Int32 → Option (XS × Int32)) (st : XS) (a1 a2 : Int32) : Option (XS × Int32) :=
  if a1 = a2 then
    ((X_seated st).bind fun v4 =>
    (J11_bitCount v4).bind fun v5 =>
    some (st, v5))
  else
    ((rec st (a1 + (1 : Int32)) a2).bind fun q2 =>
    if (a1 - a1 / (2 : Int32) * (2 : Int32)) = 0 then
      (X_duelOn_L38 rec a1 a2 bs_fu q2.1 q2.2 (1 : Int32) (0 : Int32))
    else
      (X_duelOn_L38 rec a1 a2 bs_fu q2.1 q2.2 (0 : Int32) (0 : Int32)))
def X_duelOn : Nat → XS → Int32 → Int32 → Option (XS × Int32)
  | 0, _, _, _ => none
  | d + 1, st, a1, a2 => X_duelOn_body (X_duelOn d) st a1 a2
def rm_X_duelOn (d : Nat) : Room := { frames := 8 + d, cells := 0, slots := 0, locals := 260 + 40 * d }
section CR_duel
variable {p : Program} {l : Launch} {e : Env} {R : Room} {s : State} {m : MethodId} {args : Array Value} {below : List Frame} {meth : Method} {c : Code} {H : Heap} {locs : List Loc} {cells slots : Nat} {Q : State → Prop}
variable {cc : ByteArray} {pc nL idx : Nat} {ls : Array Slot} {rest : List Value} {lv : List (Nat × Value)} {A : Nat → Prop} {H0 : Heap} {own : String}
theorem call_duel {D : va_G} {ct : Nat → ClassId} {a : XA} {ρ : Option Nat} {d : Nat} (hM : ∀ (sz : Nat) (st : XS) (a1 a2 : Int32) (z : XS × Int32), X_duelOn d st a1 a2 = some z → Met l yX0_duelOn (ws_ yX0_duelOn cX0_duelOn 7 (some .int)) (rm_X_duelOn d) (GPre gEX D ct (xAs a) (WX ct a ρ st) sz [.ref (ah a 0), .int a1, .int a2]) (GQi D (xAs a) (xAs a) (WX ct a ρ z.1) sz z.2) 0 0 (gA (xAs a) sz)) {st : XS} {a1 a2 : Int32} {z : XS × Int32} (S : CallFix p m c cc nL s args lw_all own) (hl : lv_has ls nL lv) (hE : gEX s) (hK : va_K D clA (tysG ct) s) (hH : GH D A (xAs a) H0 (WX ct a ρ st) H locs) (hlk : Cond.methodLink own idx yX0_duelOn ∈ lw_all) (hv : X_duelOn d st a1 a2 = some z) (hR : (rm_X_duelOn d).frames + 1 ≤ R.frames ∧ 8 + (7 + 11) + (rm_X_duelOn d).locals ≤ R.locals) (hsum : (rest.map fun v => v.category).sum ≤ 8) (hdg : decode cc pc = .ok (.invokevirtual idx, 3)) (hf : cells ≤ R.cells ∧ slots ≤ R.slots)
    (k : ∀ (H1 : Heap) (locs1 : List Loc), GH D A (xAs a) H0 (WX ct a ρ z.1) H1 locs1 → W p l e R s m args below meth c H1 locs1 cells slots Q (F0 m (pc + 3) ls (.int z.2 :: rest))) : W p l e R s m args below meth c H locs cells slots Q (F0 m pc ls (.int a2 :: .int a1 :: .ref (ah a 0) :: rest)) :=
  g_calli (av := [.int a1, .int a2]) S hl gEX_ok hE hK hH (hM H.size st a1 a2 z hv) (lw_V hlk q802 qs28 q69 q803) rfl rfl ⟨rfl, by decide, by decide, by show (parseMethodDescriptor yX0_duelOn.desc).map (fun d => d.parameters.length) = some 2; decide +kernel⟩ hR (x_recv hK hH) (fun _ h => Or.inl h) rfl hsum hdg hf k
end CR_duel
set_option maxHeartbeats 4000000 in
set_option maxRecDepth 100000 in
theorem met_X_duelOn : ∀ (d : Nat) (l : Launch) (D : va_G) (ct : Nat → ClassId) (a : XA) (ρ : Option Nat) (sz : Nat) (st : XS) (a1 a2 : Int32) (z : XS × Int32), X_duelOn d st a1 a2 = some z → Met l yX0_duelOn (ws_ yX0_duelOn cX0_duelOn 7 (some .int)) (rm_X_duelOn d) (GPre gEX D ct (xAs a) (WX ct a ρ st) sz [.ref (ah a 0), .int a1, .int a2]) (GQi D (xAs a) (xAs a) (WX ct a ρ z.1) sz z.2) 0 0 (gA (xAs a) sz) := by
  intro d l D ct a ρ
  induction d with
  | zero =>
    intro sz st a1 a2 z hd
    rw [X_duelOn] at hd
    cases hd
  | succ d ih =>
    intro sz st a1 a2 z hd
    rw [X_duelOn] at hd
    refine g_met (cc := cX0_duelOn) (maxL := 7) (ret := (some .int)) (by decide) (Nat.le_of_ble_eq_true rfl) ?_
    intro p e U m args below meth c ls S hr hlk hK hH hE hsz hl
    have S : CallFix p m c cX0_duelOn 7 U args lw_all RX0 := S
    have hx := S.1
    have hb := S.2.1
    have hl : lv_has ls 7 [(0, .ref (ah a 0)), (1, .int a1), (2, .int a2)] := hl
    have h38 : ∀ (n38 : Nat) (st : XS) (x3 : Int32) (x4 : Int32) (x5 : Int32) (H : Heap) (locs : List Loc) (ls : Array Slot), GH D (gA (xAs a) sz) (xAs a) U.heap (WX ct a ρ st) H locs → lv_has ls 7 [(0, .ref (ah a 0)), (1, .int a1), (2, .int a2), (3, .int x3), (4, .int x4), (5, .int x5)] → X_duelOn_L38 (X_duelOn d) a1 a2 n38 st x3 x4 x5 = some z → W p l e (rm_X_duelOn (d + 1)) U m args below meth c H locs 0 0 (MQ below (GQi D (xAs a) (xAs a) (WX ct a ρ z.1) sz z.2) args U 0 0 (gA (xAs a) sz)) (F0 m 38 ls []) := by
      intro n38
      induction n38 with
      | zero =>
        intro st x3 x4 x5 H locs ls hH hl hd
        rw [X_duelOn_L38] at hd
        cases hd
      | succ n38 ih38 =>
        intro st x3 x4 x5 H locs ls hH hl hd
        rw [X_duelOn_L38] at hd
        refine lv_iload (pc := 38) hx hb dX0_duelOn_38 (lv_at hl 5 rfl) ?_
        refine lv_aload_n (pc := 40) hx hb dX0_duelOn_40 rfl (lv_at hl 0 rfl) ?_
        refine xg_ringMany (pc := 41) S hK hH dX0_duelOn_41 ?_
        refine lv_icmp_ge (pc := 44) (tgt := 124) hx hb dX0_duelOn_44 (by decide) (fun c6 => ?_) (fun c6 => ?_)
        · have hd := if_t c6 hd
          refine lv_iload_n (pc := 124) hx hb dX0_duelOn_124 rfl (lv_at hl 3 rfl) ?_
          exact g_iret (WX ct a ρ) hd S hr hlk hH dX0_duelOn_125
        · have hd := if_n c6 hd
          refine lv_aload_n (pc := 47) hx hb dX0_duelOn_47 rfl (lv_at hl 0 rfl) ?_
          refine xg_up (pc := 48) S hK hH dX0_duelOn_48 ?_
          refine lv_iload (pc := 51) hx hb dX0_duelOn_51 (lv_at hl 5 rfl) ?_
          obtain ⟨v7, hv7, hd⟩ := bs_bd hd
          refine call_X_has (pc := 53) S hl q520 hv7 ⟨by simp only [rm_X_duelOn]; omega, by simp only [rm_X_duelOn]; omega⟩ (Nat.le_of_ble_eq_true rfl) dX0_duelOn_53 ⟨Nat.zero_le _, Nat.zero_le _⟩ ?_
          refine lv_iload (pc := 56) hx hb dX0_duelOn_56 (lv_at hl 4 rfl) ?_
          refine lv_icmp_ne (pc := 58) (tgt := 118) hx hb dX0_duelOn_58 (by decide) (fun c8 => ?_) (fun c8 => ?_)
          · have hd := if_n c8 hd
            obtain ⟨w9, ew9, hd⟩ := bs_let_spec hd
            refine lv_iinc (pc := 118) (v := w9) (lv' := [(5, .int w9), (0, .ref (ah a 0)), (1, .int a1), (2, .int a2), (3, .int x3), (4, .int x4)]) hx hb dX0_duelOn_118 hl (k := 5) rfl (by rw [ew9]; rfl) (by decide) rfl (fun ls hl => ?_)
            refine lv_goto (pc := 121) (tgt := 38) hx hb dX0_duelOn_121 (by decide) ?_
            exact ih38 st x3 x4 w9 _ _ _ hH (lv_sub hl [1, 2, 3, 4, 5, 0] rfl) hd
          · have hd := if_t c8 hd
            refine lv_aload_n (pc := 61) hx hb dX0_duelOn_61 rfl (lv_at hl 0 rfl) ?_
            refine lv_dup (pc := 62) hx hb dX0_duelOn_62 rfl ?_
            refine xg_up (pc := 63) S hK hH dX0_duelOn_63 ?_
            refine lv_iconst (v := (1 : Int32)) (pc := 66) hx hb dX0_duelOn_66 (by decide) ?_
            refine lv_iload (pc := 67) hx hb dX0_duelOn_67 (lv_at hl 5 rfl) ?_
            refine lv_ishl (pc := 69) hx hb dX0_duelOn_69 ?_
            refine lv_ixor (pc := 70) hx hb dX0_duelOn_70 ?_
            obtain ⟨w10, ew10, hd⟩ := bs_let_spec hd
            refine lv_topE (pc := 71) ew10 ?_
            obtain ⟨s11, es11, hd⟩ := bs_let_spec hd
            refine xp_up (pc := 71) S hK hH dX0_duelOn_71 es11 (fun H locs hH => ?_)
            refine lv_aload_n (pc := 74) hx hb dX0_duelOn_74 rfl (lv_at hl 0 rfl) ?_
            refine lv_iload_n (pc := 75) hx hb dX0_duelOn_75 rfl (lv_at hl 1 rfl) ?_
            refine lv_iconst (v := (1 : Int32)) (pc := 76) hx hb dX0_duelOn_76 (by decide) ?_
            refine lv_iadd (pc := 77) hx hb dX0_duelOn_77 ?_
            refine lv_iload_n (pc := 78) hx hb dX0_duelOn_78 rfl (lv_at hl 2 rfl) ?_
            obtain ⟨q12, hq12, hd⟩ := bs_bd hd
            refine call_duel ih (pc := 79) S hl hE hK hH q800 hq12 ⟨by simp only [rm_X_duelOn]; omega, by simp only [rm_X_duelOn]; omega⟩ (Nat.le_of_ble_eq_true rfl) dX0_duelOn_79 ⟨Nat.zero_le _, Nat.zero_le _⟩ (fun H locs hH => ?_)
            refine lv_istore (pc := 82) (lv' := [(6, .int q12.2), (0, .ref (ah a 0)), (1, .int a1), (2, .int a2), (3, .int x3), (4, .int x4), (5, .int x5)]) hx hb dX0_duelOn_82 hl (by decide) rfl (fun ls hl => ?_)
            refine lv_aload_n (pc := 84) hx hb dX0_duelOn_84 rfl (lv_at hl 1 rfl) ?_
            refine lv_dup (pc := 85) hx hb dX0_duelOn_85 rfl ?_
            refine xg_up (pc := 86) S hK hH dX0_duelOn_86 ?_
            refine lv_iconst (v := (1 : Int32)) (pc := 89) hx hb dX0_duelOn_89 (by decide) ?_
            refine lv_iload (pc := 90) hx hb dX0_duelOn_90 (lv_at hl 6 rfl) ?_
            refine lv_ishl (pc := 92) hx hb dX0_duelOn_92 ?_
            refine lv_ixor (pc := 93) hx hb dX0_duelOn_93 ?_
            obtain ⟨w13, ew13, hd⟩ := bs_let_spec hd
            refine lv_topE (pc := 94) ew13 ?_
            obtain ⟨s14, es14, hd⟩ := bs_let_spec hd
            refine xp_up (pc := 94) S hK hH dX0_duelOn_94 es14 (fun H locs hH => ?_)
            refine lv_iload (pc := 97) hx hb dX0_duelOn_97 (lv_at hl 5 rfl) ?_
            refine lv_if_eq (pc := 99) (tgt := 111) hx hb dX0_duelOn_99 (by decide) (fun c15 => ?_) (fun c15 => ?_)
            · have hd := if_t c15 hd
              refine lv_iload_n (pc := 111) hx hb dX0_duelOn_111 rfl (lv_at hl 4 rfl) ?_
              refine lv_iload (pc := 112) hx hb dX0_duelOn_112 (lv_at hl 0 rfl) ?_
              obtain ⟨v16, hv16, hd⟩ := bs_bd hd
              refine call_J9_max (pc := 114) S hl q739 hv16 ⟨by simp only [rm_X_duelOn]; omega, by simp only [rm_X_duelOn]; omega⟩ (Nat.le_of_ble_eq_true rfl) dX0_duelOn_114 ⟨Nat.zero_le _, Nat.zero_le _⟩ ?_
              refine lv_istore_n (pc := 117) (lv' := [(3, .int v16), (6, .int q12.2), (0, .ref (ah a 0)), (1, .int a1), (2, .int a2), (4, .int x4), (5, .int x5)]) hx hb dX0_duelOn_117 rfl hl (by decide) rfl (fun ls hl => ?_)
              obtain ⟨w17, ew17, hd⟩ := bs_let_spec hd
              refine lv_iinc (pc := 118) (v := w17) (lv' := [(5, .int w17), (3, .int v16), (6, .int q12.2), (0, .ref (ah a 0)), (1, .int a1), (2, .int a2), (4, .int x4)]) hx hb dX0_duelOn_118 hl (k := 6) rfl (by rw [ew17]; rfl) (by decide) rfl (fun ls hl => ?_)
              refine lv_goto (pc := 121) (tgt := 38) hx hb dX0_duelOn_121 (by decide) ?_
              exact ih38 s14 v16 x4 w17 _ _ _ hH (lv_sub hl [3, 4, 5, 1, 6, 0] rfl) hd
            · have hd := if_n c15 hd
              refine lv_iload_n (pc := 102) hx hb dX0_duelOn_102 rfl (lv_at hl 4 rfl) ?_
              refine lv_iload (pc := 103) hx hb dX0_duelOn_103 (lv_at hl 0 rfl) ?_
              obtain ⟨v18, hv18, hd⟩ := bs_bd hd
              refine call_J9_min (pc := 105) S hl q513 hv18 ⟨by simp only [rm_X_duelOn]; omega, by simp only [rm_X_duelOn]; omega⟩ (Nat.le_of_ble_eq_true rfl) dX0_duelOn_105 ⟨Nat.zero_le _, Nat.zero_le _⟩ ?_
              refine lv_goto (pc := 108) (tgt := 117) hx hb dX0_duelOn_108 (by decide) ?_
              refine lv_istore_n (pc := 117) (lv' := [(3, .int v18), (6, .int q12.2), (0, .ref (ah a 0)), (1, .int a1), (2, .int a2), (4, .int x4), (5, .int x5)]) hx hb dX0_duelOn_117 rfl hl (by decide) rfl (fun ls hl => ?_)
              obtain ⟨w19, ew19, hd⟩ := bs_let_spec hd
              refine lv_iinc (pc := 118) (v := w19) (lv' := [(5, .int w19), (3, .int v18), (6, .int q12.2), (0, .ref (ah a 0)), (1, .int a1), (2, .int a2), (4, .int x4)]) hx hb dX0_duelOn_118 hl (k := 6) rfl (by rw [ew19]; rfl) (by decide) rfl (fun ls hl => ?_)
              refine lv_goto (pc := 121) (tgt := 38) hx hb dX0_duelOn_121 (by decide) ?_
              exact ih38 s14 v18 x4 w19 _ _ _ hH (lv_sub hl [3, 4, 5, 1, 6, 0] rfl) hd
    unfold X_duelOn_body at hd
    refine lv_iload_n (pc := 0) hx hb dX0_duelOn_0 rfl (lv_at hl 1 rfl) ?_
    refine lv_iload_n (pc := 1) hx hb dX0_duelOn_1 rfl (lv_at hl 2 rfl) ?_
    refine lv_icmp_ne (pc := 2) (tgt := 13) hx hb dX0_duelOn_2 (by decide) (fun c1 => ?_) (fun c1 => ?_)
    · have hd := if_n c1 hd
      refine lv_aload_n (pc := 13) hx hb dX0_duelOn_13 rfl (lv_at hl 0 rfl) ?_
      refine lv_iload_n (pc := 14) hx hb dX0_duelOn_14 rfl (lv_at hl 1 rfl) ?_
      refine lv_iconst (v := (1 : Int32)) (pc := 15) hx hb dX0_duelOn_15 (by decide) ?_
      refine lv_iadd (pc := 16) hx hb dX0_duelOn_16 ?_
      refine lv_iload_n (pc := 17) hx hb dX0_duelOn_17 rfl (lv_at hl 2 rfl) ?_
      obtain ⟨q2, hq2, hd⟩ := bs_bd hd
      refine call_duel ih (pc := 18) S hl hE hK hH q800 hq2 ⟨by simp only [rm_X_duelOn]; omega, by simp only [rm_X_duelOn]; omega⟩ (Nat.le_of_ble_eq_true rfl) dX0_duelOn_18 ⟨Nat.zero_le _, Nat.zero_le _⟩ (fun H locs hH => ?_)
      refine lv_istore_n (pc := 21) (lv' := [(3, .int q2.2), (0, .ref (ah a 0)), (1, .int a1), (2, .int a2)]) hx hb dX0_duelOn_21 rfl hl (by decide) rfl (fun ls hl => ?_)
      refine lv_iload_n (pc := 22) hx hb dX0_duelOn_22 rfl (lv_at hl 2 rfl) ?_
      refine lv_iconst (v := (2 : Int32)) (pc := 23) hx hb dX0_duelOn_23 (by decide) ?_
      refine lv_irem (pc := 24) hx hb dX0_duelOn_24 (by decide) ?_
      refine lv_if_ne (pc := 25) (tgt := 32) hx hb dX0_duelOn_25 (by decide) (fun c3 => ?_) (fun c3 => ?_)
      · have hd := if_n c3 hd
        refine lv_iconst (v := (0 : Int32)) (pc := 32) hx hb dX0_duelOn_32 (by decide) ?_
        refine lv_istore (pc := 33) (lv' := [(4, .int (0 : Int32)), (3, .int q2.2), (0, .ref (ah a 0)), (1, .int a1), (2, .int a2)]) hx hb dX0_duelOn_33 hl (by decide) rfl (fun ls hl => ?_)
        refine lv_iconst (v := (0 : Int32)) (pc := 35) hx hb dX0_duelOn_35 (by decide) ?_
        refine lv_istore (pc := 36) (lv' := [(5, .int (0 : Int32)), (4, .int (0 : Int32)), (3, .int q2.2), (0, .ref (ah a 0)), (1, .int a1), (2, .int a2)]) hx hb dX0_duelOn_36 hl (by decide) rfl (fun ls hl => ?_)
        exact h38 bs_fu q2.1 q2.2 (0 : Int32) (0 : Int32) _ _ _ hH (lv_sub hl [3, 4, 5, 2, 1, 0] rfl) hd
      · have hd := if_t c3 hd
        refine lv_iconst (v := (1 : Int32)) (pc := 28) hx hb dX0_duelOn_28 (by decide) ?_
        refine lv_goto (pc := 29) (tgt := 33) hx hb dX0_duelOn_29 (by decide) ?_
        refine lv_istore (pc := 33) (lv' := [(4, .int (1 : Int32)), (3, .int q2.2), (0, .ref (ah a 0)), (1, .int a1), (2, .int a2)]) hx hb dX0_duelOn_33 hl (by decide) rfl (fun ls hl => ?_)
        refine lv_iconst (v := (0 : Int32)) (pc := 35) hx hb dX0_duelOn_35 (by decide) ?_
        refine lv_istore (pc := 36) (lv' := [(5, .int (0 : Int32)), (4, .int (1 : Int32)), (3, .int q2.2), (0, .ref (ah a 0)), (1, .int a1), (2, .int a2)]) hx hb dX0_duelOn_36 hl (by decide) rfl (fun ls hl => ?_)
        exact h38 bs_fu q2.1 q2.2 (1 : Int32) (0 : Int32) _ _ _ hH (lv_sub hl [3, 4, 5, 2, 1, 0] rfl) hd
    · have hd := if_t c1 hd
      refine lv_aload_n (pc := 5) hx hb dX0_duelOn_5 rfl (lv_at hl 0 rfl) ?_
      obtain ⟨v4, hv4, hd⟩ := bs_bd hd
      refine call_X_seated (pc := 6) S hl hE hK hH q665 hv4 ⟨by simp only [rm_X_duelOn]; omega, by simp only [rm_X_duelOn]; omega⟩ (Nat.le_of_ble_eq_true rfl) dX0_duelOn_6 ⟨Nat.zero_le _, Nat.zero_le _⟩ ?_
      obtain ⟨v5, hv5, hd⟩ := bs_bd hd
      refine call_J11_bitCount (pc := 9) S hl q669 hv5 ⟨by simp only [rm_X_duelOn]; omega, by simp only [rm_X_duelOn]; omega⟩ (Nat.le_of_ble_eq_true rfl) dX0_duelOn_9 ⟨Nat.zero_le _, Nat.zero_le _⟩ ?_
      exact g_iret (WX ct a ρ) hd S hr hlk hH dX0_duelOn_12
/-! CapCouncil.duel (I)I -/
def X_duel (st : XS) (a1 : Int32) : Option (XS × Int32) :=
  (X_isIn a1 (0 : Int32) (4 : Int32)).bind fun v1 =>
  if v1 = 0 then
    (some (st, (-1 : Int32)))
  else
    (if (xi st 2) = 0 then
      (some (st, (-4 : Int32)))
    else
      ((X_duelOn 6 st (0 : Int32) a1).bind fun q4 =>
      some (q4.1, q4.2)))
def rm_X_duel : Room := { frames := 15, cells := 0, slots := 0, locals := 540 }
set_option maxHeartbeats 4000000 in
set_option maxRecDepth 100000 in
theorem met_X_duel (l : Launch) (D : va_G) (ct : Nat → ClassId) (a : XA) (ρ : Option Nat) (sz : Nat) (st : XS) (a1 : Int32) (z : (XS × Int32)) (hd : X_duel st a1 = some z) : Met l yX0_duel (ws_ yX0_duel cX0_duel 2 (some .int)) rm_X_duel (GPre gEX D ct (xAs a) (WX ct a ρ st) sz [.ref (ah a 0), .int a1]) (GQi D (xAs a) (xAs a) (WX ct a ρ z.1) sz z.2) 0 0 (gA (xAs a) sz) := by
  refine g_met (cc := cX0_duel) (maxL := 2) (ret := (some .int)) (by decide) (Nat.le_of_ble_eq_true rfl) ?_
  intro p e U m args below meth c ls S hr hlk hK hH hE hsz hl
  have S : CallFix p m c cX0_duel 2 U args lw_all RX0 := S
  have hx := S.1
  have hb := S.2.1
  have hl : lv_has ls 2 [(0, .ref (ah a 0)), (1, .int a1)] := hl
  unfold X_duel at hd
  refine lv_iload_n (pc := 0) hx hb dX0_duel_0 rfl (lv_at hl 1 rfl) ?_
  refine lv_iconst (v := (0 : Int32)) (pc := 1) hx hb dX0_duel_1 (by decide) ?_
  refine lv_iconst (v := (4 : Int32)) (pc := 2) hx hb dX0_duel_2 (by decide) ?_
  obtain ⟨v1, hv1, hd⟩ := bs_bd hd
  refine call_X_isIn (pc := 3) S hl q285 hv1 ⟨Nat.le_of_ble_eq_true rfl, Nat.le_of_ble_eq_true rfl⟩ (Nat.le_of_ble_eq_true rfl) dX0_duel_3 ⟨Nat.zero_le _, Nat.zero_le _⟩ ?_
  refine lv_if_ne (pc := 6) (tgt := 11) hx hb dX0_duel_6 (by decide) (fun c2 => ?_) (fun c2 => ?_)
  · have hd := if_n c2 hd
    refine lv_aload_n (pc := 11) hx hb dX0_duel_11 rfl (lv_at hl 0 rfl) ?_
    refine xg_ringMany (pc := 12) S hK hH dX0_duel_12 ?_
    refine lv_if_ne (pc := 15) (tgt := 23) hx hb dX0_duel_15 (by decide) (fun c3 => ?_) (fun c3 => ?_)
    · have hd := if_n c3 hd
      refine lv_aload_n (pc := 23) hx hb dX0_duel_23 rfl (lv_at hl 0 rfl) ?_
      refine lv_iconst (v := (0 : Int32)) (pc := 24) hx hb dX0_duel_24 (by decide) ?_
      refine lv_iload_n (pc := 25) hx hb dX0_duel_25 rfl (lv_at hl 1 rfl) ?_
      obtain ⟨q4, hq4, hd⟩ := bs_bd hd
      refine call_duel (met_X_duelOn 6 l D ct a ρ) (pc := 26) S hl hE hK hH q800 hq4 ⟨Nat.le_of_ble_eq_true rfl, Nat.le_of_ble_eq_true rfl⟩ (Nat.le_of_ble_eq_true rfl) dX0_duel_26 ⟨Nat.zero_le _, Nat.zero_le _⟩ (fun H locs hH => ?_)
      exact g_iret (WX ct a ρ) hd S hr hlk hH dX0_duel_29
    · have hd := if_t c3 hd
      refine lv_bipush (v := (-4 : Int32)) (pc := 18) hx hb dX0_duel_18 (by decide) ?_
      refine lv_goto (pc := 20) (tgt := 29) hx hb dX0_duel_20 (by decide) ?_
      exact g_iret (WX ct a ρ) hd S hr hlk hH dX0_duel_29
  · have hd := if_t c2 hd
    refine lv_iconst (v := (-1 : Int32)) (pc := 9) hx hb dX0_duel_9 (by decide) ?_
    exact g_iret (WX ct a ρ) hd S hr hlk hH dX0_duel_10
section CR_X_duel
variable {p : Program} {l : Launch} {e : Env} {R : Room} {s : State} {m : MethodId} {args : Array Value} {below : List Frame} {meth : Method} {c : Code} {H : Heap} {locs : List Loc} {cells slots : Nat} {Q : State → Prop}
variable {cc : ByteArray} {pc nL idx : Nat} {ls : Array Slot} {rest : List Value} {lv : List (Nat × Value)} {A : Nat → Prop} {H0 : Heap} {own : String}
theorem call_X_duel {D : va_G} {ct : Nat → ClassId} {a : XA} {ρ : Option Nat} {st : XS} {a1 : Int32} {z : (XS × Int32)} (S : CallFix p m c cc nL s args lw_all own) (hl : lv_has ls nL lv) (hE : gEX s) (hK : va_K D clA (tysG ct) s) (hH : GH D A (xAs a) H0 (WX ct a ρ st) H locs) (hlk : Cond.methodLink own idx yX0_duel ∈ lw_all) (hv : X_duel st a1 = some z) (hR : 16 ≤ R.frames ∧ 561 ≤ R.locals) (hsum : (rest.map fun v => v.category).sum ≤ 8) (hdg : decode cc pc = .ok (.invokevirtual idx, 3)) (hf : cells ≤ R.cells ∧ slots ≤ R.slots)
    (k : ∀ (H1 : Heap) (locs1 : List Loc), GH D A (xAs a) H0 (WX ct a ρ z.1) H1 locs1 → W p l e R s m args below meth c H1 locs1 cells slots Q (F0 m (pc + 3) ls (.int z.2 :: rest))) : W p l e R s m args below meth c H locs cells slots Q (F0 m pc ls (.int a1 :: .ref (ah a 0) :: rest)) :=
  g_calli (av := [.int a1]) S hl gEX_ok hE hK hH (met_X_duel l D ct a ρ H.size st a1 z hv) (lw_V hlk q797 q798 q69 q799) rfl rfl ⟨rfl, by decide, by decide, by show (parseMethodDescriptor yX0_duel.desc).map (fun d => d.parameters.length) = some 1; decide +kernel⟩ hR (x_recv hK hH) (fun _ h => Or.inl h) rfl hsum hdg hf k
end CR_X_duel
