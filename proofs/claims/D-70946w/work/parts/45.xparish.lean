set_option maxRecDepth 100000
/-! CapCouncil.parish (I)I -/
def X_parish_L60 (k85 : XS → Int32 → Option (XS × Int32)) (rvf : Nat → Value) (a1 : Int32) : Nat → XS → Int32 → Option (XS × Int32)
  | 0, _, _ => none
  | n + 1, st, x2 =>
    if (6 : Int32) ≤ x2 then
      (k85 st (0 : Int32))
    else
      ((bs_ix 6 x2).bind fun v15 =>
      bs_let (sxg st v15 (some ((X_ringKd x2), (0 : Int32)))) fun s16 =>
      bs_let (x2 + (1 : Int32)) fun w17 =>
      X_parish_L60 k85 rvf a1 n s16 w17)
def X_parish_L85 (k151 : XS → Int32 → Option (XS × Int32)) (rvf : Nat → Value) (a1 : Int32) : Nat → XS → Int32 → Option (XS × Int32)
  | 0, _, _ => none
  | n + 1, st, x2 =>
    if (xi st 2) ≤ x2 then
      (k151 st (0 : Int32))
    else
      ((bs_ld (xa st 3) 15 ((3 : Int32) * x2)).bind fun v19 =>
      (bs_ix 5 x2).bind fun v21 =>
      bs_let (sxg st (6 + v21) (some ((X_ringKd v19), x2))) fun s22 =>
      (bs_ld (xa s22 3) 15 (((3 : Int32) * x2) + (1 : Int32))).bind fun v23 =>
      (xast s22 1 5 x2 v23).bind fun s24 =>
      (bs_ld (xa s24 3) 15 (((3 : Int32) * x2) + (2 : Int32))).bind fun v25 =>
      (xast s24 2 5 x2 v25).bind fun s26 =>
      bs_let (x2 + (1 : Int32)) fun w27 =>
      X_parish_L85 k151 rvf a1 n s26 w27)
def X_parish_L151 (k195 : XS → Option (XS × Int32)) (rvf : Nat → Value) (a1 : Int32) : Nat → XS → Int32 → Option (XS × Int32)
  | 0, _, _ => none
  | n + 1, st, x2 =>
    if (xi st 3) ≤ x2 then
      (k195 st)
    else
      ((bs_ld (xa st 4) 12 ((2 : Int32) * x2)).bind fun v29 =>
      (xast st 5 6 x2 v29).bind fun s30 =>
      (bs_ld (xa s30 4) 12 (((2 : Int32) * x2) + (1 : Int32))).bind fun v31 =>
      (xast s30 6 6 x2 v31).bind fun s32 =>
      bs_let (x2 + (1 : Int32)) fun w33 =>
      X_parish_L151 k195 rvf a1 n s32 w33)
def X_parish_L219 (rvf : Nat → Value) (a1 : Int32) : Nat → XS → Int32 → Option (XS × Int32)
  | 0, _, _ => none
  | n + 1, st, x2 =>
    if (3 : Int32) ≤ x2 then
      (some (st, (xi st 2)))
    else
      ((bs_ix 3 x2).bind fun v39 =>
      bs_let (sxk st v39 none) fun s40 =>
      bs_let (x2 + (1 : Int32)) fun w41 =>
      X_parish_L219 rvf a1 n s40 w41)
def X_parish_J195 (rvf : Nat → Value) (a1 : Int32) (st : XS) : Option (XS × Int32) :=
  bs_let (sxi st 7 (0 : Int32)) fun s34 =>
  bs_let (((1 : Int32) <<< ((xi s34 2) &&& 31)) - (1 : Int32)) fun w35 =>
  bs_let (sxi s34 8 w35) fun s36 =>
  bs_let (sxi s36 9 (0 : Int32)) fun s37 =>
  X_parish_L219 rvf a1 bs_fu s37 (0 : Int32)
def X_parish (st : XS) (rvf : Nat → Value) (a1 : Int32) : Option (XS × Int32) :=
  (X_isText a1).bind fun v1 =>
  if v1 = 0 then
    (some (st, (-1 : Int32)))
  else
    ((bs_ix 4 a1).bind fun v3 =>
    if (xr st (6 + v3)).isSome = true then
      ((bs_ix 4 a1).bind fun v5 =>
      (X_goesOn st (rvf v5) v5).bind fun q6 =>
      if q6.2 = (-9 : Int32) then
        (bs_let (xi q6.1 5) fun w8 =>
        bs_let (sxi q6.1 2 w8) fun s9 =>
        bs_let (xi s9 6) fun w10 =>
        bs_let (sxi s9 3 w10) fun s11 =>
        X_parish_L60 (X_parish_L85 (X_parish_L151 (X_parish_J195 rvf a1) rvf a1 bs_fu) rvf a1 bs_fu) rvf a1 bs_fu s11 (0 : Int32))
      else
        (some (q6.1, (-4 : Int32))))
    else
      ((X_found st (1 : Int32)).bind fun q12 =>
      some (q12.1, q12.2)))
def rm_X_parish : Room := { frames := 5, cells := 2050, slots := 2050, locals := 120 }
set_option maxHeartbeats 4000000 in
set_option maxRecDepth 100000 in
theorem met_X_parish (l : Launch) (D : va_G) (ct : Nat → ClassId) (a : XA) (sz : Nat) (st : XS) (rvf : Nat → Value) (a1 : Int32) (hrv : ∀ j, rvf j = va_rf (ar a (6 + j))) (z : (XS × Int32)) (hd : X_parish st rvf a1 = some z) : Met l yX0_parish (ws_ yX0_parish cX0_parish 3 (some .int)) rm_X_parish (GPre gEX D ct (xAs a) (WX ct a none st) sz [.ref (ah a 0), .int a1]) (GQx D ct a z.1 sz z.2) 2050 2050 (gA (xAs a) sz) := by
  refine g_met (cc := cX0_parish) (maxL := 3) (ret := (some .int)) (by decide) (Nat.le_of_ble_eq_true rfl) ?_
  intro p e U m args below meth c ls S hr hlk hK hH hE hsz hl
  have S : CallFix p m c cX0_parish 3 U args lw_all RX0 := S
  have hx := S.1
  have hb := S.2.1
  have hl : lv_has ls 3 [(0, .ref (ah a 0)), (1, .int a1)] := hl
  have h219 : ∀ (n219 : Nat) (st : XS) (x2 : Int32) (b : XB) (ce sl : Nat) (hce : ce + 0 ≤ 2050) (hsl : sl + 0 ≤ 2050) (H : Heap) (locs : List Loc) (ls : Array Slot), GH D (gA (xAs a) sz) (xAs (a.1, b)) U.heap (WX ct (a.1, b) none st) H locs → lv_has ls 3 [(0, .ref (ah a 0)), (1, .int a1), (2, .int x2)] → X_parish_L219 rvf a1 n219 st x2 = some z → W p l e rm_X_parish U m args below meth c H locs ce sl (MQ below (GQx D ct a z.1 sz z.2) args U 2050 2050 (gA (xAs a) sz)) (F0 m 219 ls []) := by
    intro n219
    induction n219 with
    | zero =>
      intro st x2 b ce sl hce hsl H locs ls hH hl hd
      rw [X_parish_L219] at hd
      cases hd
    | succ n219 ih219 =>
      intro st x2 b ce sl hce hsl H locs ls hH hl hd
      rw [X_parish_L219] at hd
      refine lv_iload_n (pc := 219) hx hb dX0_parish_219 rfl (lv_at hl 2 rfl) ?_
      refine lv_iconst (v := (3 : Int32)) (pc := 220) hx hb dX0_parish_220 (by decide) ?_
      refine lv_icmp_ge (pc := 221) (tgt := 237) hx hb dX0_parish_221 (by decide) (fun c38 => ?_) (fun c38 => ?_)
      · have hd := if_t c38 hd
        refine lv_aload_n (pc := 237) hx hb dX0_parish_237 rfl (lv_at hl 0 rfl) ?_
        refine xg_ringMany (a := (a.1, b)) (pc := 238) S hK hH dX0_parish_238 ?_
        refine W.widen (k := 2050) (n := 2050) (by first | exact Nat.le_of_ble_eq_true rfl | omega) (by first | exact Nat.le_of_ble_eq_true rfl | omega) ?_
        exact gq_iret hd S hr hlk hH dX0_parish_241
      · have hd := if_n c38 hd
        refine lv_aload_n (pc := 224) hx hb dX0_parish_224 rfl (lv_at hl 0 rfl) ?_
        refine xg_kept (a := (a.1, b)) (pc := 225) S hK hH dX0_parish_225 ?_
        refine lv_iload_n (pc := 228) hx hb dX0_parish_228 rfl (lv_at hl 2 rfl) ?_
        refine lv_null (pc := 229) hx hb dX0_parish_229 ?_
        obtain ⟨v39, hv39, hd⟩ := bs_bd hd
        obtain ⟨s40, es40, hd⟩ := bs_let_spec hd
        refine xa_keptN (a := (a.1, b)) (pc := 230) S hK hH hv39 es40 dX0_parish_230 (fun b H locs hH => ?_)
        obtain ⟨w41, ew41, hd⟩ := bs_let_spec hd
        refine lv_iinc (pc := 231) (v := w41) (lv' := [(2, .int w41), (0, .ref (ah a 0)), (1, .int a1)]) hx hb dX0_parish_231 hl (k := 2) rfl (by rw [ew41]; rfl) (by decide) rfl (fun ls hl => ?_)
        refine lv_goto (pc := 234) (tgt := 219) hx hb dX0_parish_234 (by decide) ?_
        exact ih219 s40 w41 _ _ _ (by first | omega | (simp only [bs_fu]; omega)) (by first | omega | (simp only [bs_fu]; omega)) _ _ _ hH (lv_sub hl [1, 2, 0] rfl) hd
  have h195 : ∀ (st : XS) (b : XB) (ce sl : Nat) (hce : ce + 0 ≤ 2050) (hsl : sl + 0 ≤ 2050) (H : Heap) (locs : List Loc) (ls : Array Slot), GH D (gA (xAs a) sz) (xAs (a.1, b)) U.heap (WX ct (a.1, b) none st) H locs → lv_has ls 3 [(0, .ref (ah a 0)), (1, .int a1)] → X_parish_J195 rvf a1 st = some z → W p l e rm_X_parish U m args below meth c H locs ce sl (MQ below (GQx D ct a z.1 sz z.2) args U 2050 2050 (gA (xAs a) sz)) (F0 m 195 ls []) := by
    intro st b ce sl hce hsl H locs ls hH hl hd
    unfold X_parish_J195 at hd
    refine lv_aload_n (pc := 195) hx hb dX0_parish_195 rfl (lv_at hl 0 rfl) ?_
    refine lv_iconst (v := (0 : Int32)) (pc := 196) hx hb dX0_parish_196 (by decide) ?_
    obtain ⟨s34, es34, hd⟩ := bs_let_spec hd
    refine xp_yearNow (a := (a.1, b)) (pc := 197) S hK hH dX0_parish_197 es34 (fun H locs hH => ?_)
    refine lv_aload_n (pc := 200) hx hb dX0_parish_200 rfl (lv_at hl 0 rfl) ?_
    refine lv_iconst (v := (1 : Int32)) (pc := 201) hx hb dX0_parish_201 (by decide) ?_
    refine lv_aload_n (pc := 202) hx hb dX0_parish_202 rfl (lv_at hl 0 rfl) ?_
    refine xg_ringMany (a := (a.1, b)) (pc := 203) S hK hH dX0_parish_203 ?_
    refine lv_ishl (pc := 206) hx hb dX0_parish_206 ?_
    refine lv_iconst (v := (1 : Int32)) (pc := 207) hx hb dX0_parish_207 (by decide) ?_
    refine lv_isub (pc := 208) hx hb dX0_parish_208 ?_
    obtain ⟨w35, ew35, hd⟩ := bs_let_spec hd
    refine lv_topE (pc := 209) ew35 ?_
    obtain ⟨s36, es36, hd⟩ := bs_let_spec hd
    refine xp_up (a := (a.1, b)) (pc := 209) S hK hH dX0_parish_209 es36 (fun H locs hH => ?_)
    refine lv_aload_n (pc := 212) hx hb dX0_parish_212 rfl (lv_at hl 0 rfl) ?_
    refine lv_iconst (v := (0 : Int32)) (pc := 213) hx hb dX0_parish_213 (by decide) ?_
    obtain ⟨s37, es37, hd⟩ := bs_let_spec hd
    refine xp_deedMany (a := (a.1, b)) (pc := 214) S hK hH dX0_parish_214 es37 (fun H locs hH => ?_)
    refine lv_iconst (v := (0 : Int32)) (pc := 217) hx hb dX0_parish_217 (by decide) ?_
    refine lv_istore_n (pc := 218) (lv' := [(2, .int (0 : Int32)), (0, .ref (ah a 0)), (1, .int a1)]) hx hb dX0_parish_218 rfl hl (by decide) rfl (fun ls hl => ?_)
    exact h219 bs_fu s37 (0 : Int32) _ _ _ (by first | omega | (simp only [bs_fu]; omega)) (by first | omega | (simp only [bs_fu]; omega)) _ _ _ hH (lv_sub hl [1, 2, 0] rfl) hd
  have h151 : ∀ (n151 : Nat) (st : XS) (x2 : Int32) (b : XB) (ce sl : Nat) (hce : ce + 0 ≤ 2050) (hsl : sl + 0 ≤ 2050) (H : Heap) (locs : List Loc) (ls : Array Slot), GH D (gA (xAs a) sz) (xAs (a.1, b)) U.heap (WX ct (a.1, b) none st) H locs → lv_has ls 3 [(0, .ref (ah a 0)), (1, .int a1), (2, .int x2)] → X_parish_L151 (X_parish_J195 rvf a1) rvf a1 n151 st x2 = some z → W p l e rm_X_parish U m args below meth c H locs ce sl (MQ below (GQx D ct a z.1 sz z.2) args U 2050 2050 (gA (xAs a) sz)) (F0 m 151 ls []) := by
    intro n151
    induction n151 with
    | zero =>
      intro st x2 b ce sl hce hsl H locs ls hH hl hd
      rw [X_parish_L151] at hd
      cases hd
    | succ n151 ih151 =>
      intro st x2 b ce sl hce hsl H locs ls hH hl hd
      rw [X_parish_L151] at hd
      refine lv_iload_n (pc := 151) hx hb dX0_parish_151 rfl (lv_at hl 2 rfl) ?_
      refine lv_aload_n (pc := 152) hx hb dX0_parish_152 rfl (lv_at hl 0 rfl) ?_
      refine xg_bedMany (a := (a.1, b)) (pc := 153) S hK hH dX0_parish_153 ?_
      refine lv_icmp_ge (pc := 156) (tgt := 195) hx hb dX0_parish_156 (by decide) (fun c28 => ?_) (fun c28 => ?_)
      · have hd := if_t c28 hd
        exact h195 st _ _ _ (by first | omega | (simp only [bs_fu]; omega)) (by first | omega | (simp only [bs_fu]; omega)) _ _ _ hH (lv_sub hl [0, 1] rfl) hd
      · have hd := if_n c28 hd
        refine lv_aload_n (pc := 159) hx hb dX0_parish_159 rfl (lv_at hl 0 rfl) ?_
        refine xg_places (a := (a.1, b)) (pc := 160) S hK hH dX0_parish_160 ?_
        refine lv_iload_n (pc := 163) hx hb dX0_parish_163 rfl (lv_at hl 2 rfl) ?_
        refine lv_aload_n (pc := 164) hx hb dX0_parish_164 rfl (lv_at hl 0 rfl) ?_
        refine xg_readBed (a := (a.1, b)) (pc := 165) S hK hH dX0_parish_165 ?_
        refine lv_iconst (v := (2 : Int32)) (pc := 168) hx hb dX0_parish_168 (by decide) ?_
        refine lv_iload_n (pc := 169) hx hb dX0_parish_169 rfl (lv_at hl 2 rfl) ?_
        refine lv_imul (pc := 170) hx hb dX0_parish_170 ?_
        obtain ⟨v29, hv29, hd⟩ := bs_bd hd
        refine xl_readBed (a := (a.1, b)) (pc := 171) S hK hH hv29 dX0_parish_171 ?_
        obtain ⟨s30, hs30, hd⟩ := bs_bd hd
        refine xs_places (a := (a.1, b)) (pc := 172) S hK hH hs30 dX0_parish_172 (fun H locs hH => ?_)
        refine lv_aload_n (pc := 173) hx hb dX0_parish_173 rfl (lv_at hl 0 rfl) ?_
        refine xg_thoughts (a := (a.1, b)) (pc := 174) S hK hH dX0_parish_174 ?_
        refine lv_iload_n (pc := 177) hx hb dX0_parish_177 rfl (lv_at hl 2 rfl) ?_
        refine lv_aload_n (pc := 178) hx hb dX0_parish_178 rfl (lv_at hl 0 rfl) ?_
        refine xg_readBed (a := (a.1, b)) (pc := 179) S hK hH dX0_parish_179 ?_
        refine lv_iconst (v := (2 : Int32)) (pc := 182) hx hb dX0_parish_182 (by decide) ?_
        refine lv_iload_n (pc := 183) hx hb dX0_parish_183 rfl (lv_at hl 2 rfl) ?_
        refine lv_imul (pc := 184) hx hb dX0_parish_184 ?_
        refine lv_iconst (v := (1 : Int32)) (pc := 185) hx hb dX0_parish_185 (by decide) ?_
        refine lv_iadd (pc := 186) hx hb dX0_parish_186 ?_
        obtain ⟨v31, hv31, hd⟩ := bs_bd hd
        refine xl_readBed (a := (a.1, b)) (pc := 187) S hK hH hv31 dX0_parish_187 ?_
        obtain ⟨s32, hs32, hd⟩ := bs_bd hd
        refine xs_thoughts (a := (a.1, b)) (pc := 188) S hK hH hs32 dX0_parish_188 (fun H locs hH => ?_)
        obtain ⟨w33, ew33, hd⟩ := bs_let_spec hd
        refine lv_iinc (pc := 189) (v := w33) (lv' := [(2, .int w33), (0, .ref (ah a 0)), (1, .int a1)]) hx hb dX0_parish_189 hl (k := 2) rfl (by rw [ew33]; rfl) (by decide) rfl (fun ls hl => ?_)
        refine lv_goto (pc := 192) (tgt := 151) hx hb dX0_parish_192 (by decide) ?_
        exact ih151 s32 w33 _ _ _ (by first | omega | (simp only [bs_fu]; omega)) (by first | omega | (simp only [bs_fu]; omega)) _ _ _ hH (lv_sub hl [1, 2, 0] rfl) hd
  have h85 : ∀ (n85 : Nat) (st : XS) (x2 : Int32) (b : XB) (ce sl : Nat) (hce : ce + (n85 + 0) ≤ 2050) (hsl : sl + (n85 + 0) ≤ 2050) (H : Heap) (locs : List Loc) (ls : Array Slot), GH D (gA (xAs a) sz) (xAs (a.1, b)) U.heap (WX ct (a.1, b) none st) H locs → lv_has ls 3 [(0, .ref (ah a 0)), (1, .int a1), (2, .int x2)] → X_parish_L85 (X_parish_L151 (X_parish_J195 rvf a1) rvf a1 bs_fu) rvf a1 n85 st x2 = some z → W p l e rm_X_parish U m args below meth c H locs ce sl (MQ below (GQx D ct a z.1 sz z.2) args U 2050 2050 (gA (xAs a) sz)) (F0 m 85 ls []) := by
    intro n85
    induction n85 with
    | zero =>
      intro st x2 b ce sl hce hsl H locs ls hH hl hd
      rw [X_parish_L85] at hd
      cases hd
    | succ n85 ih85 =>
      intro st x2 b ce sl hce hsl H locs ls hH hl hd
      rw [X_parish_L85] at hd
      refine lv_iload_n (pc := 85) hx hb dX0_parish_85 rfl (lv_at hl 2 rfl) ?_
      refine lv_aload_n (pc := 86) hx hb dX0_parish_86 rfl (lv_at hl 0 rfl) ?_
      refine xg_ringMany (a := (a.1, b)) (pc := 87) S hK hH dX0_parish_87 ?_
      refine lv_icmp_ge (pc := 90) (tgt := 149) hx hb dX0_parish_90 (by decide) (fun c18 => ?_) (fun c18 => ?_)
      · have hd := if_t c18 hd
        refine lv_iconst (v := (0 : Int32)) (pc := 149) hx hb dX0_parish_149 (by decide) ?_
        refine lv_istore_n (pc := 150) (lv' := [(2, .int (0 : Int32)), (0, .ref (ah a 0)), (1, .int a1)]) hx hb dX0_parish_150 rfl hl (by decide) rfl (fun ls hl => ?_)
        exact h151 bs_fu st (0 : Int32) _ _ _ (by first | omega | (simp only [bs_fu]; omega)) (by first | omega | (simp only [bs_fu]; omega)) _ _ _ hH (lv_sub hl [1, 2, 0] rfl) hd
      · have hd := if_n c18 hd
        refine lv_aload_n (pc := 93) hx hb dX0_parish_93 rfl (lv_at hl 0 rfl) ?_
        refine xg_rings (a := (a.1, b)) (pc := 94) S hK hH dX0_parish_94 ?_
        refine lv_iload_n (pc := 97) hx hb dX0_parish_97 rfl (lv_at hl 2 rfl) ?_
        refine lv_aload_n (pc := 98) hx hb dX0_parish_98 rfl (lv_at hl 0 rfl) ?_
        refine xg_readRing (a := (a.1, b)) (pc := 99) S hK hH dX0_parish_99 ?_
        refine lv_iconst (v := (3 : Int32)) (pc := 102) hx hb dX0_parish_102 (by decide) ?_
        refine lv_iload_n (pc := 103) hx hb dX0_parish_103 rfl (lv_at hl 2 rfl) ?_
        refine lv_imul (pc := 104) hx hb dX0_parish_104 ?_
        obtain ⟨v19, hv19, hd⟩ := bs_bd hd
        refine xl_readRing (a := (a.1, b)) (pc := 105) S hK hH hv19 dX0_parish_105 ?_
        refine lv_iload_n (pc := 106) hx hb dX0_parish_106 rfl (lv_at hl 2 rfl) ?_
        refine call_newRing (a := (a.1, b)) (pc := 107) (k := v19) (num := x2) S hl hK hH q425 ⟨Nat.le_of_ble_eq_true rfl, Nat.le_of_ble_eq_true rfl⟩ (Nat.le_of_ble_eq_true rfl) dX0_parish_107 ⟨by simp only [rm_X_parish]; omega, by simp only [rm_X_parish]; omega⟩ (fun q20 H locs hH => ?_)
        obtain ⟨v21, hv21, hd⟩ := bs_bd hd
        obtain ⟨s22, es22, hd⟩ := bs_let_spec hd
        refine xa_ring (a := (a.1, b)) (pc := 110) (X_ringKd_lt v19) S hE hK hH hv21 es22 dX0_parish_110 (fun b H locs hH => ?_)
        refine lv_aload_n (pc := 111) hx hb dX0_parish_111 rfl (lv_at hl 0 rfl) ?_
        refine xg_middleOf (a := (a.1, b)) (pc := 112) S hK hH dX0_parish_112 ?_
        refine lv_iload_n (pc := 115) hx hb dX0_parish_115 rfl (lv_at hl 2 rfl) ?_
        refine lv_aload_n (pc := 116) hx hb dX0_parish_116 rfl (lv_at hl 0 rfl) ?_
        refine xg_readRing (a := (a.1, b)) (pc := 117) S hK hH dX0_parish_117 ?_
        refine lv_iconst (v := (3 : Int32)) (pc := 120) hx hb dX0_parish_120 (by decide) ?_
        refine lv_iload_n (pc := 121) hx hb dX0_parish_121 rfl (lv_at hl 2 rfl) ?_
        refine lv_imul (pc := 122) hx hb dX0_parish_122 ?_
        refine lv_iconst (v := (1 : Int32)) (pc := 123) hx hb dX0_parish_123 (by decide) ?_
        refine lv_iadd (pc := 124) hx hb dX0_parish_124 ?_
        obtain ⟨v23, hv23, hd⟩ := bs_bd hd
        refine xl_readRing (a := (a.1, b)) (pc := 125) S hK hH hv23 dX0_parish_125 ?_
        obtain ⟨s24, hs24, hd⟩ := bs_bd hd
        refine xs_middleOf (a := (a.1, b)) (pc := 126) S hK hH hs24 dX0_parish_126 (fun H locs hH => ?_)
        refine lv_aload_n (pc := 127) hx hb dX0_parish_127 rfl (lv_at hl 0 rfl) ?_
        refine xg_wideOf (a := (a.1, b)) (pc := 128) S hK hH dX0_parish_128 ?_
        refine lv_iload_n (pc := 131) hx hb dX0_parish_131 rfl (lv_at hl 2 rfl) ?_
        refine lv_aload_n (pc := 132) hx hb dX0_parish_132 rfl (lv_at hl 0 rfl) ?_
        refine xg_readRing (a := (a.1, b)) (pc := 133) S hK hH dX0_parish_133 ?_
        refine lv_iconst (v := (3 : Int32)) (pc := 136) hx hb dX0_parish_136 (by decide) ?_
        refine lv_iload_n (pc := 137) hx hb dX0_parish_137 rfl (lv_at hl 2 rfl) ?_
        refine lv_imul (pc := 138) hx hb dX0_parish_138 ?_
        refine lv_iconst (v := (2 : Int32)) (pc := 139) hx hb dX0_parish_139 (by decide) ?_
        refine lv_iadd (pc := 140) hx hb dX0_parish_140 ?_
        obtain ⟨v25, hv25, hd⟩ := bs_bd hd
        refine xl_readRing (a := (a.1, b)) (pc := 141) S hK hH hv25 dX0_parish_141 ?_
        obtain ⟨s26, hs26, hd⟩ := bs_bd hd
        refine xs_wideOf (a := (a.1, b)) (pc := 142) S hK hH hs26 dX0_parish_142 (fun H locs hH => ?_)
        obtain ⟨w27, ew27, hd⟩ := bs_let_spec hd
        refine lv_iinc (pc := 143) (v := w27) (lv' := [(2, .int w27), (0, .ref (ah a 0)), (1, .int a1)]) hx hb dX0_parish_143 hl (k := 2) rfl (by rw [ew27]; rfl) (by decide) rfl (fun ls hl => ?_)
        refine lv_goto (pc := 146) (tgt := 85) hx hb dX0_parish_146 (by decide) ?_
        exact ih85 s26 w27 _ _ _ (by first | omega | (simp only [bs_fu]; omega)) (by first | omega | (simp only [bs_fu]; omega)) _ _ _ hH (lv_sub hl [1, 2, 0] rfl) hd
  have h60 : ∀ (n60 : Nat) (st : XS) (x2 : Int32) (b : XB) (ce sl : Nat) (hce : ce + (n60 + 1000) ≤ 2050) (hsl : sl + (n60 + 1000) ≤ 2050) (H : Heap) (locs : List Loc) (ls : Array Slot), GH D (gA (xAs a) sz) (xAs (a.1, b)) U.heap (WX ct (a.1, b) none st) H locs → lv_has ls 3 [(0, .ref (ah a 0)), (1, .int a1), (2, .int x2)] → X_parish_L60 (X_parish_L85 (X_parish_L151 (X_parish_J195 rvf a1) rvf a1 bs_fu) rvf a1 bs_fu) rvf a1 n60 st x2 = some z → W p l e rm_X_parish U m args below meth c H locs ce sl (MQ below (GQx D ct a z.1 sz z.2) args U 2050 2050 (gA (xAs a) sz)) (F0 m 60 ls []) := by
    intro n60
    induction n60 with
    | zero =>
      intro st x2 b ce sl hce hsl H locs ls hH hl hd
      rw [X_parish_L60] at hd
      cases hd
    | succ n60 ih60 =>
      intro st x2 b ce sl hce hsl H locs ls hH hl hd
      rw [X_parish_L60] at hd
      refine lv_iload_n (pc := 60) hx hb dX0_parish_60 rfl (lv_at hl 2 rfl) ?_
      refine lv_bipush (v := (6 : Int32)) (pc := 61) hx hb dX0_parish_61 (by decide) ?_
      refine lv_icmp_ge (pc := 63) (tgt := 83) hx hb dX0_parish_63 (by decide) (fun c13 => ?_) (fun c13 => ?_)
      · have hd := if_t c13 hd
        refine lv_iconst (v := (0 : Int32)) (pc := 83) hx hb dX0_parish_83 (by decide) ?_
        refine lv_istore_n (pc := 84) (lv' := [(2, .int (0 : Int32)), (0, .ref (ah a 0)), (1, .int a1)]) hx hb dX0_parish_84 rfl hl (by decide) rfl (fun ls hl => ?_)
        exact h85 bs_fu st (0 : Int32) _ _ _ (by first | omega | (simp only [bs_fu]; omega)) (by first | omega | (simp only [bs_fu]; omega)) _ _ _ hH (lv_sub hl [1, 2, 0] rfl) hd
      · have hd := if_n c13 hd
        refine lv_aload_n (pc := 66) hx hb dX0_parish_66 rfl (lv_at hl 0 rfl) ?_
        refine xg_likes (a := (a.1, b)) (pc := 67) S hK hH dX0_parish_67 ?_
        refine lv_iload_n (pc := 70) hx hb dX0_parish_70 rfl (lv_at hl 2 rfl) ?_
        refine lv_iload_n (pc := 71) hx hb dX0_parish_71 rfl (lv_at hl 2 rfl) ?_
        refine lv_iconst (v := (0 : Int32)) (pc := 72) hx hb dX0_parish_72 (by decide) ?_
        refine call_newRing (a := (a.1, b)) (pc := 73) (k := x2) (num := (0 : Int32)) S hl hK hH q425 ⟨Nat.le_of_ble_eq_true rfl, Nat.le_of_ble_eq_true rfl⟩ (Nat.le_of_ble_eq_true rfl) dX0_parish_73 ⟨by simp only [rm_X_parish]; omega, by simp only [rm_X_parish]; omega⟩ (fun q14 H locs hH => ?_)
        obtain ⟨v15, hv15, hd⟩ := bs_bd hd
        obtain ⟨s16, es16, hd⟩ := bs_let_spec hd
        refine xa_like (a := (a.1, b)) (pc := 76) (X_ringKd_lt x2) S hE hK hH hv15 es16 dX0_parish_76 (fun b H locs hH => ?_)
        obtain ⟨w17, ew17, hd⟩ := bs_let_spec hd
        refine lv_iinc (pc := 77) (v := w17) (lv' := [(2, .int w17), (0, .ref (ah a 0)), (1, .int a1)]) hx hb dX0_parish_77 hl (k := 2) rfl (by rw [ew17]; rfl) (by decide) rfl (fun ls hl => ?_)
        refine lv_goto (pc := 80) (tgt := 60) hx hb dX0_parish_80 (by decide) ?_
        exact ih60 s16 w17 _ _ _ (by first | omega | (simp only [bs_fu]; omega)) (by first | omega | (simp only [bs_fu]; omega)) _ _ _ hH (lv_sub hl [1, 2, 0] rfl) hd
  unfold X_parish at hd
  refine lv_iload_n (pc := 0) hx hb dX0_parish_0 rfl (lv_at hl 1 rfl) ?_
  obtain ⟨v1, hv1, hd⟩ := bs_bd hd
  refine call_X_isText (pc := 1) S hl q383 hv1 ⟨Nat.le_of_ble_eq_true rfl, Nat.le_of_ble_eq_true rfl⟩ (Nat.le_of_ble_eq_true rfl) dX0_parish_1 ⟨Nat.le_of_ble_eq_true rfl, Nat.le_of_ble_eq_true rfl⟩ ?_
  refine lv_if_ne (pc := 4) (tgt := 9) hx hb dX0_parish_4 (by decide) (fun c2 => ?_) (fun c2 => ?_)
  · have hd := if_n c2 hd
    refine lv_aload_n (pc := 9) hx hb dX0_parish_9 rfl (lv_at hl 0 rfl) ?_
    refine xg_texts (pc := 10) S hK hH dX0_parish_10 ?_
    refine lv_iload_n (pc := 13) hx hb dX0_parish_13 rfl (lv_at hl 1 rfl) ?_
    obtain ⟨v3, hv3, hd⟩ := bs_bd hd
    refine xq_texts (pc := 14) S hK hH hv3 dX0_parish_14 ?_
    refine lv_ifnonnullO (pc := 15) (tgt := 24) hx hb dX0_parish_15 (by decide) (fun c4 => ?_) (fun c4 => ?_)
    · have hd := if_t ((xo_r hH (Nat.add_lt_add_left (bs_ix_lt hv3) 6)).symm.trans c4) hd
      refine lv_aload_n (pc := 24) hx hb dX0_parish_24 rfl (lv_at hl 0 rfl) ?_
      refine lv_aload_n (pc := 25) hx hb dX0_parish_25 rfl (lv_at hl 0 rfl) ?_
      refine xg_texts (pc := 26) S hK hH dX0_parish_26 ?_
      refine lv_iload_n (pc := 29) hx hb dX0_parish_29 rfl (lv_at hl 1 rfl) ?_
      obtain ⟨v5, hv5, hd⟩ := bs_bd hd
      refine xq_texts (pc := 30) S hK hH hv5 dX0_parish_30 ?_
      obtain ⟨q6, hq6, hd⟩ := bs_bd hd
      refine call_X_goesOn (pc := 31) S hl hE hK hH q394 hq6 (bs_ix_lt hv5) (hrv v5) ⟨Nat.le_of_ble_eq_true rfl, Nat.le_of_ble_eq_true rfl⟩ (Nat.le_of_ble_eq_true rfl) dX0_parish_31 ⟨Nat.le_of_ble_eq_true rfl, Nat.le_of_ble_eq_true rfl⟩ (fun H locs hH => ?_)
      have hH := x_still hH
      refine lv_bipush (v := (-9 : Int32)) (pc := 34) hx hb dX0_parish_34 (by decide) ?_
      refine lv_icmp_eq (pc := 36) (tgt := 42) hx hb dX0_parish_36 (by decide) (fun c7 => ?_) (fun c7 => ?_)
      · have hd := if_t c7 hd
        refine lv_aload_n (pc := 42) hx hb dX0_parish_42 rfl (lv_at hl 0 rfl) ?_
        refine lv_aload_n (pc := 43) hx hb dX0_parish_43 rfl (lv_at hl 0 rfl) ?_
        refine xg_readRings (pc := 44) S hK hH dX0_parish_44 ?_
        obtain ⟨w8, ew8, hd⟩ := bs_let_spec hd
        refine lv_topE (pc := 47) ew8 ?_
        obtain ⟨s9, es9, hd⟩ := bs_let_spec hd
        refine xp_ringMany (pc := 47) S hK hH dX0_parish_47 es9 (fun H locs hH => ?_)
        refine lv_aload_n (pc := 50) hx hb dX0_parish_50 rfl (lv_at hl 0 rfl) ?_
        refine lv_aload_n (pc := 51) hx hb dX0_parish_51 rfl (lv_at hl 0 rfl) ?_
        refine xg_readBeds (pc := 52) S hK hH dX0_parish_52 ?_
        obtain ⟨w10, ew10, hd⟩ := bs_let_spec hd
        refine lv_topE (pc := 55) ew10 ?_
        obtain ⟨s11, es11, hd⟩ := bs_let_spec hd
        refine xp_bedMany (pc := 55) S hK hH dX0_parish_55 es11 (fun H locs hH => ?_)
        refine lv_iconst (v := (0 : Int32)) (pc := 58) hx hb dX0_parish_58 (by decide) ?_
        refine lv_istore_n (pc := 59) (lv' := [(2, .int (0 : Int32)), (0, .ref (ah a 0)), (1, .int a1)]) hx hb dX0_parish_59 rfl hl (by decide) rfl (fun ls hl => ?_)
        exact h60 bs_fu s11 (0 : Int32) _ _ _ (by first | omega | (simp only [bs_fu]; omega)) (by first | omega | (simp only [bs_fu]; omega)) _ _ _ hH (lv_sub hl [1, 2, 0] rfl) hd
      · have hd := if_n c7 hd
        refine lv_bipush (v := (-4 : Int32)) (pc := 39) hx hb dX0_parish_39 (by decide) ?_
        refine W.widen (k := 2050) (n := 2050) (by first | exact Nat.le_of_ble_eq_true rfl | omega) (by first | exact Nat.le_of_ble_eq_true rfl | omega) ?_
        exact gq_iret hd S hr hlk hH dX0_parish_41
    · have hd := if_n (fun h9 => c4 ((xo_r hH (Nat.add_lt_add_left (bs_ix_lt hv3) 6)).trans h9)) hd
      refine lv_aload_n (pc := 18) hx hb dX0_parish_18 rfl (lv_at hl 0 rfl) ?_
      refine lv_iconst (v := (1 : Int32)) (pc := 19) hx hb dX0_parish_19 (by decide) ?_
      obtain ⟨q12, hq12, hd⟩ := bs_bd hd
      refine call_X_found (pc := 20) S hl hE hK hH q288 hq12 ⟨Nat.le_of_ble_eq_true rfl, Nat.le_of_ble_eq_true rfl⟩ (Nat.le_of_ble_eq_true rfl) dX0_parish_20 ⟨Nat.le_of_ble_eq_true rfl, Nat.le_of_ble_eq_true rfl⟩ (fun H locs hH => ?_)
      refine W.widen (k := 2050) (n := 2050) (by first | exact Nat.le_of_ble_eq_true rfl | omega) (by first | exact Nat.le_of_ble_eq_true rfl | omega) ?_
      exact gq_iret hd S hr hlk hH dX0_parish_23
  · have hd := if_t c2 hd
    refine lv_iconst (v := (-1 : Int32)) (pc := 7) hx hb dX0_parish_7 (by decide) ?_
    refine W.widen (k := 2050) (n := 2050) (by first | exact Nat.le_of_ble_eq_true rfl | omega) (by first | exact Nat.le_of_ble_eq_true rfl | omega) ?_
    exact gq_iret hd S hr hlk hH dX0_parish_8
section CR_X_parish
variable {p : Program} {l : Launch} {e : Env} {R : Room} {s : State} {m : MethodId} {args : Array Value} {below : List Frame} {meth : Method} {c : Code} {H : Heap} {locs : List Loc} {cells slots : Nat} {Q : State → Prop}
variable {cc : ByteArray} {pc nL idx : Nat} {ls : Array Slot} {rest : List Value} {lv : List (Nat × Value)} {A : Nat → Prop} {H0 : Heap} {own : String}
theorem call_X_parish {D : va_G} {ct : Nat → ClassId} {a : XA} {st : XS} {rvf : Nat → Value} {a1 : Int32} {z : (XS × Int32)} (S : CallFix p m c cc nL s args lw_all own) (hl : lv_has ls nL lv) (hE : gEX s) (hK : va_K D clA (tysG ct) s) (hH : GH D A (xAs a) H0 (WX ct a none st) H locs) (hlk : Cond.methodLink own idx yX0_parish ∈ lw_all) (hv : X_parish st rvf a1 = some z) (hrv : ∀ j, rvf j = va_rf (ar a (6 + j))) (hR : 6 ≤ R.frames ∧ 142 ≤ R.locals) (hsum : (rest.map fun v => v.category).sum ≤ 8) (hdg : decode cc pc = .ok (.invokevirtual idx, 3)) (hf : cells + 2050 ≤ R.cells ∧ slots + 2050 ≤ R.slots)
    (k : ∀ (b : XB) (H1 : Heap) (locs1 : List Loc), GH D A (xAs (a.1, b)) H0 (WX ct (a.1, b) none z.1) H1 locs1 → W p l e R s m args below meth c H1 locs1 (cells + 2050) (slots + 2050) Q (F0 m (pc + 3) ls (.int z.2 :: rest))) : W p l e R s m args below meth c H locs cells slots Q (F0 m pc ls (.int a1 :: .ref (ah a 0) :: rest)) :=
  gq_calli (av := [.int a1]) S hl hE hK hH (met_X_parish l D ct a H.size st rvf a1 hrv z hv) (lw_V hlk q422 q423 q69 q424) rfl rfl ⟨rfl, by decide, by decide, by show (parseMethodDescriptor yX0_parish.desc).map (fun d => d.parameters.length) = some 1; decide +kernel⟩ hR (x_recv hK hH) rfl hsum hdg hf k
end CR_X_parish
