/-! the class's world: its object, its arrays, and what they point at: rows and texts, rings, kept parishes -/
set_option maxRecDepth 100000
abbrev XS : Type := MS × (Nat → Option (Nat × (Nat → Int32))) × (Nat → Option (Nat × Int32)) × (Nat → Option (Int32 × (Nat → Int32) × (Nat → Int32))) × Value
def xi (s : XS) (k : Nat) : Int32 := mi s.1 k
def xl (s : XS) (k : Nat) : Int64 := ml s.1 k
def xa (s : XS) (k : Nat) : Nat → Int32 := ma s.1 k
/-- rows (0 .. 5) and texts (6 .. 9): how long, what they hold -/
def xr (s : XS) : Nat → Option (Nat × (Nat → Int32)) := s.2.1
/-- rings: what they would be (0 .. 5), the parish's (6 .. 10): kind, number -/
def xg (s : XS) : Nat → Option (Nat × Int32) := s.2.2.1
/-- kept parishes: deeds, ahead, now -/
def xk (s : XS) : Nat → Option (Int32 × (Nat → Int32) × (Nat → Int32)) := s.2.2.2.1
def xv (s : XS) : Value := s.2.2.2.2
def sxi (s : XS) (k : Nat) (v : Int32) : XS := (smi s.1 k v, s.2)
def sxl (s : XS) (k : Nat) (v : Int64) : XS := (sml s.1 k v, s.2)
def sxa (s : XS) (k : Nat) (f : Nat → Int32) : XS := (sma s.1 k f, s.2)
def sxr (s : XS) (j : Nat) (v : Option (Nat × (Nat → Int32))) : XS := (s.1, va_up s.2.1 j v, s.2.2)
def sxg (s : XS) (j : Nat) (v : Option (Nat × Int32)) : XS := (s.1, s.2.1, va_up s.2.2.1 j v, s.2.2.2)
def sxk (s : XS) (j : Nat) (v : Option (Int32 × (Nat → Int32) × (Nat → Int32))) : XS := (s.1, s.2.1, s.2.2.1, va_up s.2.2.2.1 j v, s.2.2.2.2)
def sxv (s : XS) (v : Value) : XS := (s.1, s.2.1, s.2.2.1, s.2.2.2.1, v)
def xast (s : XS) (k n : Nat) (i x : Int32) : Option XS := if bs_in i n = true then some (sxa s k (upd (xa s k) i.toNatClampNeg x)) else none
theorem xast_spec {s t : XS} {k n : Nat} {i x : Int32} (h : xast s k n i x = some t) : vp_in i n ∧ t = sxa s k (upd (xa s k) i.toNatClampNeg x) := by
  unfold xast at h
  by_cases c : bs_in i n = true
  · rw [if_pos c] at h
    exact ⟨bs_in_spec c, (Option.some.inj h).symm⟩
  · rw [if_neg c] at h
    cases h
/-- a place of an array of references -/
def bs_ix (n : Nat) (i : Int32) : Option Nat := if bs_in i n = true then some i.toNatClampNeg else none
theorem bs_ix_spec {n : Nat} {i : Int32} {j : Nat} (h : bs_ix n i = some j) : vp_in i n ∧ i.toNatClampNeg = j := by
  unfold bs_ix at h
  by_cases c : bs_in i n = true
  · rw [if_pos c] at h
    exact ⟨bs_in_spec c, Option.some.inj h⟩
  · rw [if_neg c] at h
    cases h
theorem bs_ix_lt {n : Nat} {i : Int32} {j : Nat} (h : bs_ix n i = some j) : j < n := by
  obtain ⟨h1, h2⟩ := bs_ix_spec h
  subst h2
  exact Nat.not_le.mp fun q => h1 (Or.inr q)
def xrl (s : XS) (j : Nat) (i : Int32) : Option Int32 := (xr s j).bind fun q => bs_ld q.2 q.1 i
def xrn (s : XS) (j : Nat) : Option Int32 := (xr s j).map fun q => Int32.ofNat q.1
def xrs (s : XS) (j : Nat) (i x : Int32) : Option XS := (xr s j).bind fun q => if bs_in i q.1 = true then some (sxr s j (some (q.1, upd q.2 i.toNatClampNeg x))) else none
theorem vc_int (x : Int32) : (Value.int x).category = 1 := rfl
theorem vc_long (x : Int64) : (Value.long x).category = 2 := rfl
theorem vc_ref (x : Nat) : (Value.ref x).category = 1 := rfl
theorem va_rf_cat (o : Option Nat) : (va_rf o).category = 1 := by cases o <;> rfl
/-! where it lies: the object and its arrays; rows and texts; rings; kept -/
abbrev XA : Type := (Nat → Nat) × (Nat → Option Nat) × (Nat → Option Nat) × (Nat → Option (Nat × Nat × Nat))
def ah (a : XA) : Nat → Nat := a.1
def ar (a : XA) : Nat → Option Nat := a.2.1
def ag (a : XA) : Nat → Option Nat := a.2.2.1
def ak (a : XA) : Nat → Option (Nat × Nat × Nat) := a.2.2.2
def ak1 (a : XA) (j : Nat) : Option Nat := (ak a j).map fun q => q.1
def ak2 (a : XA) (j : Nat) : Option Nat := (ak a j).map fun q => q.2.1
def ak3 (a : XA) (j : Nat) : Option Nat := (ak a j).map fun q => q.2.2
def rP (ct : Nat → ClassId) (a : XA) (s : XS) (j : Nat) : va_W := match ar a j, xr s j with
  | some q, some v => [(q, .inl (if j < 6 then ct 0 else ct 2, v.1, .inl v.2))]
  | _, _ => []
def gP (a : XA) (s : XS) (j : Nat) : va_W := match ag a j, xg s j with
  | some q, some v => [(q, .inr (2 + v.1, [.int v.2]))]
  | _, _ => []
def kP (ct : Nat → ClassId) (a : XA) (s : XS) (j : Nat) : va_W := match ak a j, xk s j with
  | some q, some v => [(q.1, .inr (8, [.int v.1, .ref q.2.1, .ref q.2.2])), (q.2.1, .inl (ct 0, 560, .inl v.2.1)), (q.2.2, .inl (ct 0, 14, .inl v.2.2))]
  | _, _ => []
def XF (a : XA) (s : XS) : List Value := [.int (xi s 0), .ref (ah a 1), .int (xi s 1), .long (xl s 0), .long (xl s 1), .ref (ah a 2), .ref (ah a 3), .ref (ah a 4), .int (xi s 2), .int (xi s 3), .ref (ah a 5), .ref (ah a 6), .ref (ah a 7), xv s, .int (xi s 4), .int (xi s 5), .int (xi s 6), .ref (ah a 8), .ref (ah a 9), .int (xi s 7), .int (xi s 8), .ref (ah a 10), .ref (ah a 11), .int (xi s 9), .ref (ah a 12), .ref (ah a 13), .long (xl s 2)]
def WX0 (ct : Nat → ClassId) (a : XA) (s : XS) : va_W := [(ah a 0, .inr (0, XF a s)), (ah a 1, .inl (ct 0, 6, .inl (xa s 0))), (ah a 2, .inl (ct 3, 6, .inr (.inr (.inr (.inr (fun j => if j < 6 then ar a j else none)))))), (ah a 3, .inl (ct 4, 4, .inr (.inr (.inr (.inr (fun j => ar a (6 + j))))))), (ah a 4, .inl (ct 5, 6, .inr (.inr (.inr (.inr (fun j => if j < 6 then ag a j else none)))))), (ah a 5, .inl (ct 5, 5, .inr (.inr (.inr (.inr (fun j => ag a (6 + j))))))),
  (ah a 6, .inl (ct 0, 5, .inl (xa s 1))), (ah a 7, .inl (ct 0, 5, .inl (xa s 2))), (ah a 8, .inl (ct 0, 15, .inl (xa s 3))), (ah a 9, .inl (ct 0, 12, .inl (xa s 4))), (ah a 10, .inl (ct 0, 6, .inl (xa s 5))), (ah a 11, .inl (ct 0, 6, .inl (xa s 6))), (ah a 12, .inl (ct 0, 560, .inl (xa s 7))), (ah a 13, .inl (ct 6, 3, .inr (.inr (.inr (.inr (fun j => ak1 a j))))))]
def XOk (a : XA) (s : XS) : Prop := (∀ j, j < 10 → (ar a j).isSome = (xr s j).isSome) ∧ (∀ j, j < 11 → (ag a j).isSome = (xg s j).isSome) ∧ (∀ j, j < 3 → (ak a j).isSome = (xk s j).isSome) ∧ ∀ j v, j < 11 → xg s j = some v → v.1 < 6
/-- ρ: the text that is being read -/
def XRd (a : XA) (ρ : Option Nat) (s : XS) : Prop := ∀ t, ρ = some t → xv s = va_rf (ar a (6 + t)) ∧ t < 4
def WX (ct : Nat → ClassId) (a : XA) (ρ : Option Nat) (s : XS) : va_W × Prop :=
  (WX0 ct a s ++ ((List.range 10).flatMap (rP ct a s) ++ ((List.range 11).flatMap (gP a s) ++ (List.range 3).flatMap (kP ct a s))), XOk a s ∧ XRd a ρ s)
def xAs (a : XA) : List Nat := (List.range 14).map (ah a) ++ ((List.range 10).filterMap (ar a) ++ ((List.range 11).filterMap (ag a) ++ (List.range 3).flatMap (fun j => match ak a j with | some q => [q.1, q.2.1, q.2.2] | none => [])))
/-! a piece of a row of pieces -/
theorem fl_split {β : Type} (f : Nat → List β) (j : Nat) : ∀ n, j < n → ∃ L1 L2 : List β, ∀ g : Nat → List β, (∀ i, i ≠ j → g i = f i) → (List.range n).flatMap g = L1 ++ (g j ++ L2)
  | 0, h => absurd h (Nat.not_lt_zero _)
  | n + 1, h => by
    by_cases c : j = n
    · subst c
      refine ⟨(List.range j).flatMap f, [], fun g hg => ?_⟩
      rw [List.range_succ, List.flatMap_append]
      have : (List.range j).flatMap g = (List.range j).flatMap f := by
        rw [List.flatMap_def, List.flatMap_def]
        congr 1
        refine List.map_congr_left fun i hi => hg i ?_
        have := List.mem_range.mp hi
        omega
      rw [this]
      simp
    · obtain ⟨L1, L2, hL⟩ := fl_split f j n (by omega)
      refine ⟨L1, L2 ++ f n, fun g hg => ?_⟩
      rw [List.range_succ, List.flatMap_append, hL g hg]
      simp [hg n (fun q => c q.symm)]
theorem fl_at {β : Type} (P1 : List β) (P P2 : List β) (k : Nat) {x : β} (h : P[k]? = some x) : (P1 ++ (P ++ P2))[P1.length + k]? = some x := by
  have hk : k < P.length := (List.getElem?_eq_some_iff.mp h).1
  rw [List.getElem?_append_right (by omega), List.getElem?_append_left (by omega)]
  rw [show P1.length + k - P1.length = k by omega]
  exact h
theorem fl_set {β : Type} (P1 : List β) (P P2 : List β) (k : Nat) (hk : k < P.length) (y : β) : (P1 ++ (P ++ P2)).set (P1.length + k) y = P1 ++ (P.set k y ++ P2) := by
  rw [List.set_append_right _ _ (by omega), show P1.length + k - P1.length = k by omega, List.set_append_left _ _ hk]
/-- a row or a text, as a piece of the world -/
theorem wx_r (ct : Nat → ClassId) (a : XA) (ρ : Option Nat) (s : XS) {j : Nat} (hj : j < 10) : ∃ P1 P2 : va_W, (WX ct a ρ s).1 = P1 ++ (rP ct a s j ++ P2) ∧ ∀ v, (WX ct a ρ (sxr s j v)).1 = P1 ++ (rP ct a (sxr s j v) j ++ P2) := by
  obtain ⟨L1, L2, hL⟩ := fl_split (rP ct a s) j 10 hj
  refine ⟨WX0 ct a s ++ L1, L2 ++ ((List.range 11).flatMap (gP a s) ++ (List.range 3).flatMap (kP ct a s)), ?_, fun v => ?_⟩
  · show WX0 ct a s ++ ((List.range 10).flatMap (rP ct a s) ++ _) = _
    rw [hL _ (fun _ _ => rfl)]
    simp only [List.append_assoc]
  · show WX0 ct a s ++ ((List.range 10).flatMap (rP ct a (sxr s j v)) ++ ((List.range 11).flatMap (gP a s) ++ (List.range 3).flatMap (kP ct a s))) = _
    rw [hL (rP ct a (sxr s j v)) (fun i hi => by unfold rP xr sxr; simp only [va_up_ne _ _ hi])]
    simp only [List.append_assoc]
theorem wx_g (ct : Nat → ClassId) (a : XA) (ρ : Option Nat) (s : XS) {j : Nat} (hj : j < 11) : ∃ P1 P2 : va_W, (WX ct a ρ s).1 = P1 ++ (gP a s j ++ P2) := by
  obtain ⟨L1, L2, hL⟩ := fl_split (gP a s) j 11 hj
  refine ⟨WX0 ct a s ++ ((List.range 10).flatMap (rP ct a s) ++ L1), L2 ++ (List.range 3).flatMap (kP ct a s), ?_⟩
  show WX0 ct a s ++ ((List.range 10).flatMap (rP ct a s) ++ ((List.range 11).flatMap (gP a s) ++ _)) = _
  rw [hL _ (fun _ _ => rfl)]
  simp only [List.append_assoc]
theorem wx_k (ct : Nat → ClassId) (a : XA) (ρ : Option Nat) (s : XS) {j : Nat} (hj : j < 3) : ∃ P1 P2 : va_W, (WX ct a ρ s).1 = P1 ++ (kP ct a s j ++ P2) ∧ ∀ v, (WX ct a ρ (sxk s j v)).1 = P1 ++ (kP ct a (sxk s j v) j ++ P2) := by
  obtain ⟨L1, L2, hL⟩ := fl_split (kP ct a s) j 3 hj
  refine ⟨WX0 ct a s ++ ((List.range 10).flatMap (rP ct a s) ++ ((List.range 11).flatMap (gP a s) ++ L1)), L2, ?_, fun v => ?_⟩
  · show WX0 ct a s ++ ((List.range 10).flatMap (rP ct a s) ++ ((List.range 11).flatMap (gP a s) ++ (List.range 3).flatMap (kP ct a s))) = _
    rw [hL _ (fun _ _ => rfl)]
    simp only [List.append_assoc]
  · show WX0 ct a s ++ ((List.range 10).flatMap (rP ct a s) ++ ((List.range 11).flatMap (gP a s) ++ (List.range 3).flatMap (kP ct a (sxk s j v)))) = _
    rw [hL (kP ct a (sxk s j v)) (fun i hi => by unfold kP xk sxk; simp only [va_up_ne _ _ hi])]
    simp only [List.append_assoc]
theorem opt_of_isSome {α β : Type} {o : Option α} {p : Option β} (h : o.isSome = p.isSome) {v : β} (hp : p = some v) : ∃ q, o = some q := by
  rw [hp] at h
  exact Option.isSome_iff_exists.mp h
section XW
variable {p : Program} {l : Launch} {e : Env} {R : Room} {s : State} {m : MethodId} {args : Array Value} {below : List Frame} {meth : Method} {c : Code} {H : Heap} {locs : List Loc} {cells slots : Nat} {Q : State → Prop}
variable {cc : ByteArray} {pc nL : Nat} {ls : Array Slot} {rest : List Value} {D : va_G} {ct : Nat → ClassId} {A : Nat → Prop} {H0 : Heap} {a : XA} {ρ : Option Nat} {st st1 : XS} {i x v : Int32} {j : Nat} {own : String}
/-- a row or a text that is there: its place in the world -/
theorem xr_has (hX : (WX ct a ρ st).2) (hj : j < 10) {n : Nat} {f : Nat → Int32} (hr : xr st j = some (n, f)) : ∃ (q k : Nat), ar a j = some q ∧ (WX ct a ρ st).1[k]? = some (q, .inl (if j < 6 then ct 0 else ct 2, n, .inl f)) ∧ ∀ g : Nat → Int32, (WX ct a ρ (sxr st j (some (n, g)))).1 = (WX ct a ρ st).1.set k (q, .inl (if j < 6 then ct 0 else ct 2, n, .inl g)) := by
  obtain ⟨q, hq⟩ := opt_of_isSome (hX.1.1 j hj) hr
  obtain ⟨P1, P2, e1, e2⟩ := wx_r ct a ρ st hj
  have hp : rP ct a st j = [(q, .inl (if j < 6 then ct 0 else ct 2, n, .inl f))] := by unfold rP; rw [hq, hr]
  refine ⟨q, P1.length + 0, hq, ?_, fun g => ?_⟩
  · rw [e1, hp]
    exact fl_at P1 _ P2 0 rfl
  · have hp2 : rP ct a (sxr st j (some (n, g))) j = [(q, .inl (if j < 6 then ct 0 else ct 2, n, .inl g))] := by
      unfold rP
      rw [hq, show xr (sxr st j (some (n, g))) j = some (n, g) from va_up_self _ _ _]
    rw [e2, e1, hp, hp2]
    exact (fl_set P1 [_] P2 0 Nat.zero_lt_one _).symm
theorem xrl_spec (h : xrl st j i = some v) : ∃ n f, xr st j = some (n, f) ∧ vp_in i n ∧ f i.toNatClampNeg = v := by
  obtain ⟨q, hq, h2⟩ := bs_bd h
  exact ⟨q.1, q.2, hq, bs_ld_spec h2⟩
theorem xrs_spec (h : xrs st j i x = some st1) : ∃ n f, xr st j = some (n, f) ∧ vp_in i n ∧ st1 = sxr st j (some (n, upd f i.toNatClampNeg x)) := by
  obtain ⟨q, hq, h2⟩ := bs_bd h
  by_cases c : bs_in i q.1 = true
  · rw [if_pos c] at h2
    exact ⟨q.1, q.2, hq, bs_in_spec c, (Option.some.inj h2).symm⟩
  · rw [if_neg c] at h2
    cases h2
theorem xok_r (hX : (WX ct a ρ st).2) (hj : j < 10) {n : Nat} {f g : Nat → Int32} (hr : xr st j = some (n, f)) : (WX ct a ρ (sxr st j (some (n, g)))).2 := by
  refine ⟨⟨fun i hi => ?_, hX.1.2⟩, hX.2⟩
  by_cases c : i = j
  · subst c
    rw [hX.1.1 i hi, hr, show xr (sxr st i (some (n, g))) i = some (n, g) from va_up_self _ _ _]
    rfl
  · rw [hX.1.1 i hi, show xr (sxr st j (some (n, g))) i = xr st i from va_up_ne _ _ c]
theorem xr_ild (S : CallFix p m c cc nL s args lw_all own) (hK : va_K D clA (tysG ct) s) (hH : GH D A (xAs a) H0 (WX ct a ρ st) H locs) (hj : j < 6) (hv : xrl st j i = some v) (hdg : decode cc pc = .ok (.iaload, 1)) (k : W p l e R s m args below meth c H locs cells slots Q (F0 m (pc + 1) ls (.int v :: rest))) : W p l e R s m args below meth c H locs cells slots Q (F0 m pc ls (.int i :: va_rf (ar a j) :: rest)) := by
  obtain ⟨n, f, hr, h1, h2⟩ := xrl_spec hv
  obtain ⟨q, k0, hq, hat, -⟩ := xr_has hH.2.2.2.2.2 (Nat.lt_of_lt_of_le hj (by decide)) hr
  rw [if_pos hj] at hat
  rw [hq]
  refine va_iald (cl := clA) S.1 S.2.1 hK hH.1 k0 0 hat rfl h1 hdg ?_
  rw [h2]
  exact k
theorem xr_bld (S : CallFix p m c cc nL s args lw_all own) (hK : va_K D clA (tysG ct) s) (hH : GH D A (xAs a) H0 (WX ct a ρ st) H locs) (hj : j < 4) (hv : xrl st (6 + j) i = some v) (hdg : decode cc pc = .ok (.baload, 1)) (k : W p l e R s m args below meth c H locs cells slots Q (F0 m (pc + 1) ls (.int v :: rest))) : W p l e R s m args below meth c H locs cells slots Q (F0 m pc ls (.int i :: va_rf (ar a (6 + j)) :: rest)) := by
  obtain ⟨n, f, hr, h1, h2⟩ := xrl_spec hv
  obtain ⟨q, k0, hq, hat, -⟩ := xr_has hH.2.2.2.2.2 (Nat.add_lt_add_left hj 6) hr
  rw [if_neg (by omega)] at hat
  rw [hq]
  refine va_bald (cl := clA) S.1 S.2.1 hK hH.1 k0 2 hat rfl h1 hdg ?_
  rw [h2]
  exact k
theorem xr_len (S : CallFix p m c cc nL s args lw_all own) (hK : va_K D clA (tysG ct) s) (hH : GH D A (xAs a) H0 (WX ct a ρ st) H locs) (hj : j < 10) (hv : xrn st j = some v) (hdg : decode cc pc = .ok (.arraylength, 1)) (k : W p l e R s m args below meth c H locs cells slots Q (F0 m (pc + 1) ls (.int v :: rest))) : W p l e R s m args below meth c H locs cells slots Q (F0 m pc ls (va_rf (ar a j) :: rest)) := by
  obtain ⟨⟨n, f⟩, hr, h1⟩ := Option.map_eq_some_iff.mp hv
  obtain ⟨q, k0, hq, hat, -⟩ := xr_has hH.2.2.2.2.2 hj hr
  rw [hq]
  by_cases c6 : j < 6
  · rw [if_pos c6] at hat
    exact va_alen (cl := clA) S.1 S.2.1 hK hH.1 k0 0 hat rfl h1 hdg k
  · rw [if_neg c6] at hat
    exact va_alen (cl := clA) S.1 S.2.1 hK hH.1 k0 2 hat rfl h1 hdg k
theorem xr_ist (S : CallFix p m c cc nL s args lw_all own) (hK : va_K D clA (tysG ct) s) (hH : GH D A (xAs a) H0 (WX ct a ρ st) H locs) (hj : j < 6) (hv : xrs st j i x = some st1) (hdg : decode cc pc = .ok (.iastore, 1)) (k : ∀ (H1 : Heap) (locs1 : List Loc), GH D A (xAs a) H0 (WX ct a ρ st1) H1 locs1 → W p l e R s m args below meth c H1 locs1 cells slots Q (F0 m (pc + 1) ls rest)) : W p l e R s m args below meth c H locs cells slots Q (F0 m pc ls (.int x :: .int i :: va_rf (ar a j) :: rest)) := by
  obtain ⟨n, f, hr, h1, h2⟩ := xrs_spec hv
  subst h2
  obtain ⟨q, k0, hq, hat, hset⟩ := xr_has hH.2.2.2.2.2 (Nat.lt_of_lt_of_le hj (by decide)) hr
  rw [if_pos hj] at hat
  simp only [if_pos hj] at hset
  rw [hq]
  refine va_iast (cl := clA) S.1 S.2.1 hK hH.1 hH.D hH.2.2.1 k0 0 hat rfl h1 hdg (fun H1 locs1 hP hD hS => ?_)
  refine k H1 locs1 ⟨?_, ?_, hS, hH.2.2.2.1, hH.2.2.2.2.1, xok_r hH.2.2.2.2.2 (Nat.lt_of_lt_of_le hj (by decide)) hr⟩
  · rw [hset]; exact hP
  · rw [hset]; exact va_D.set hH.2.1 (p := k0) hat
theorem xr_bst (S : CallFix p m c cc nL s args lw_all own) (hK : va_K D clA (tysG ct) s) (hH : GH D A (xAs a) H0 (WX ct a ρ st) H locs) (hj : j < 4) (hv : xrs st (6 + j) i (vp_nar .byte x) = some st1) (hdg : decode cc pc = .ok (.bastore, 1)) (k : ∀ (H1 : Heap) (locs1 : List Loc), GH D A (xAs a) H0 (WX ct a ρ st1) H1 locs1 → W p l e R s m args below meth c H1 locs1 cells slots Q (F0 m (pc + 1) ls rest)) : W p l e R s m args below meth c H locs cells slots Q (F0 m pc ls (.int x :: .int i :: va_rf (ar a (6 + j)) :: rest)) := by
  obtain ⟨n, f, hr, h1, h2⟩ := xrs_spec hv
  subst h2
  obtain ⟨q, k0, hq, hat, hset⟩ := xr_has hH.2.2.2.2.2 (Nat.add_lt_add_left hj 6) hr
  have c6 : ¬ 6 + j < 6 := by omega
  rw [if_neg c6] at hat
  simp only [if_neg c6] at hset
  rw [hq]
  refine va_bast (cl := clA) S.1 S.2.1 hK hH.1 hH.D hH.2.2.1 k0 2 hat rfl h1 hdg (fun H1 locs1 hP hD hS => ?_)
  refine k H1 locs1 ⟨?_, ?_, hS, hH.2.2.2.1, hH.2.2.2.2.1, xok_r hH.2.2.2.2.2 (Nat.add_lt_add_left hj 6) hr⟩
  · rw [hset]; exact hP
  · rw [hset]; exact va_D.set hH.2.1 (p := k0) hat
/-! whether it is there -/
theorem lv_ifnonnullO {o : Option Nat} {off : Int} {tgt : Nat} (hexec : p.tables.exec = Jvm.exec) (hb : c.code = cc) (hdg : decode cc pc = .ok (.ifnonnull off, 3)) (ht : (pc : Int) + off = (tgt : Int)) (kt : o.isSome = true → W p l e R s m args below meth c H locs cells slots Q (F0 m tgt ls rest)) (kf : ¬ o.isSome = true → W p l e R s m args below meth c H locs cells slots Q (F0 m (pc + 3) ls rest)) : W p l e R s m args below meth c H locs cells slots Q (F0 m pc ls (va_rf o :: rest)) := by
  cases o with
  | none => exact lv_ifnonnullN hexec hb hdg (kf (by decide))
  | some q => exact lv_ifnonnull hexec hb hdg ht (kt rfl)
theorem lv_ifnullO {o : Option Nat} {off : Int} {tgt : Nat} (hexec : p.tables.exec = Jvm.exec) (hb : c.code = cc) (hdg : decode cc pc = .ok (.ifnull off, 3)) (ht : (pc : Int) + off = (tgt : Int)) (kt : ¬ o.isSome = true → W p l e R s m args below meth c H locs cells slots Q (F0 m tgt ls rest)) (kf : o.isSome = true → W p l e R s m args below meth c H locs cells slots Q (F0 m (pc + 3) ls rest)) : W p l e R s m args below meth c H locs cells slots Q (F0 m pc ls (va_rf o :: rest)) := by
  cases o with
  | none => exact lv_ifnullN hexec hb hdg ht (kt (by decide))
  | some q => exact lv_ifnull hexec hb hdg (kf rfl)
theorem lv_aloadO {o : Option Nat} {i : Nat} (hexec : p.tables.exec = Jvm.exec) (hb : c.code = cc) (hdg : decode cc pc = .ok (.aload i, 2)) (hl : ls[i]? = some (.val (va_rf o))) (k : W p l e R s m args below meth c H locs cells slots Q (F0 m (pc + 2) ls (va_rf o :: rest))) : W p l e R s m args below meth c H locs cells slots Q (F0 m pc ls (rest)) := by
  cases o with
  | none => exact lv_aloadN hexec hb hdg hl k
  | some q => exact lv_aload hexec hb hdg hl k
theorem lv_aload_nO {o : Option Nat} {k : Fin 4} {i : Nat} (hexec : p.tables.exec = Jvm.exec) (hb : c.code = cc) (hdg : decode cc pc = .ok (.aload_n k, 1)) (hi : (k : Nat) = i) (hl : ls[i]? = some (.val (va_rf o))) (k : W p l e R s m args below meth c H locs cells slots Q (F0 m (pc + 1) ls (va_rf o :: rest))) : W p l e R s m args below meth c H locs cells slots Q (F0 m pc ls (rest)) := by
  cases o with
  | none => exact lv_aload_nN hexec hb hdg hi hl k
  | some q => exact lv_aload_n hexec hb hdg hi hl k
theorem lv_astoreO {o : Option Nat} {i nL : Nat} {lv lv' : List (Nat × Value)} (hexec : p.tables.exec = Jvm.exec) (hb : c.code = cc) (hdg : decode cc pc = .ok (.astore i, 2)) (h : lv_has ls nL lv) (hn : i < nL) (hl : (i, va_rf o) :: lv.filter (fun q => !(q.1 == i) && !(q.1 + 1 == i && q.2.category == 2)) = lv') (kk : ∀ ls' : Array Slot, lv_has ls' nL lv' → W p l e R s m args below meth c H locs cells slots Q (F0 m (pc + 2) ls' rest)) : W p l e R s m args below meth c H locs cells slots Q (F0 m pc ls (va_rf o :: rest)) := by
  cases o with
  | none => exact lv_astoreN hexec hb hdg h hn hl kk
  | some q => exact lv_astore hexec hb hdg h hn hl kk
theorem lv_astore_nO {o : Option Nat} {k : Fin 4} {i nL : Nat} {lv lv' : List (Nat × Value)} (hexec : p.tables.exec = Jvm.exec) (hb : c.code = cc) (hdg : decode cc pc = .ok (.astore_n k, 1)) (hi : (k : Nat) = i) (h : lv_has ls nL lv) (hn : i < nL) (hl : (i, va_rf o) :: lv.filter (fun q => !(q.1 == i) && !(q.1 + 1 == i && q.2.category == 2)) = lv') (kk : ∀ ls' : Array Slot, lv_has ls' nL lv' → W p l e R s m args below meth c H locs cells slots Q (F0 m (pc + 1) ls' rest)) : W p l e R s m args below meth c H locs cells slots Q (F0 m pc ls (va_rf o :: rest)) := by
  cases o with
  | none => exact lv_astore_nN hexec hb hdg hi h hn hl kk
  | some q => exact lv_astore_n hexec hb hdg hi h hn hl kk
/-- a read of an array of references, of whatever sort -/
theorem g_aald {ws : va_W} (hexec : p.tables.exec = Jvm.exec) (hb : c.code = cc) (hK : va_K D clA (tysG ct) s) (hP : va_P D clA ws H) (q0 t0 : Nat) {b : Nat} {cA : ClassId} {ty : FieldType} {n : Nat} {f : Nat → Option Nat} (ha : ws[q0]? = some (b, .inl (cA, n, .inr (.inr (.inr (.inr f)))))) (ht : (tysG ct)[t0]? = some (cA, ty)) (hty : ty.isReference = true) (hin : vp_in i n) (hdg : decode cc pc = .ok (.aaload, 1))
    (kk : W p l e R s m args below meth c H locs cells slots Q (F0 m (pc + 1) ls (va_rf (f i.toNatClampNeg) :: rest))) : W p l e R s m args below meth c H locs cells slots Q (F0 m pc ls (.int i :: .ref b :: rest)) := by
  have hlt : i.toNatClampNeg < n := Nat.not_le.mp fun q => hin (Or.inr q)
  exact W.aald (v := va_rf (f i.toNatClampNeg)) (ty := ty) hexec hb (hP q0 _ ha) ((hK.2 t0 _ ht).1 n (fun j => va_rf (f j))) hty (fun q => by cases q) (by show ¬ (i < 0 ∨ (arrV _ _ _).slots.size ≤ _); rw [arrV_size]; exact hin) (by show (arrV _ _ _).slots[_]? = _; rw [arrV_read _ _ hlt]) rfl rfl hdg kk
theorem xq_rows (S : CallFix p m c cc nL s args lw_all own) (hK : va_K D clA (tysG ct) s) (hH : GH D A (xAs a) H0 (WX ct a ρ st) H locs) (hv : bs_ix 6 i = some j) (hdg : decode cc pc = .ok (.aaload, 1)) (k : W p l e R s m args below meth c H locs cells slots Q (F0 m (pc + 1) ls (va_rf (ar a j) :: rest))) : W p l e R s m args below meth c H locs cells slots Q (F0 m pc ls (.int i :: .ref (ah a 2) :: rest)) := by
  obtain ⟨h1, h2⟩ := bs_ix_spec hv
  have hj := bs_ix_lt hv
  subst h2
  refine g_aald S.1 S.2.1 hK hH.1 2 3 rfl rfl rfl h1 hdg ?_
  rw [if_pos hj]
  exact k
theorem xq_texts (S : CallFix p m c cc nL s args lw_all own) (hK : va_K D clA (tysG ct) s) (hH : GH D A (xAs a) H0 (WX ct a ρ st) H locs) (hv : bs_ix 4 i = some j) (hdg : decode cc pc = .ok (.aaload, 1)) (k : W p l e R s m args below meth c H locs cells slots Q (F0 m (pc + 1) ls (va_rf (ar a (6 + j)) :: rest))) : W p l e R s m args below meth c H locs cells slots Q (F0 m pc ls (.int i :: .ref (ah a 3) :: rest)) := by
  obtain ⟨h1, h2⟩ := bs_ix_spec hv
  subst h2
  exact g_aald S.1 S.2.1 hK hH.1 3 4 rfl rfl rfl h1 hdg k
theorem xq_likes (S : CallFix p m c cc nL s args lw_all own) (hK : va_K D clA (tysG ct) s) (hH : GH D A (xAs a) H0 (WX ct a ρ st) H locs) (hv : bs_ix 6 i = some j) (hdg : decode cc pc = .ok (.aaload, 1)) (k : W p l e R s m args below meth c H locs cells slots Q (F0 m (pc + 1) ls (va_rf (ag a j) :: rest))) : W p l e R s m args below meth c H locs cells slots Q (F0 m pc ls (.int i :: .ref (ah a 4) :: rest)) := by
  obtain ⟨h1, h2⟩ := bs_ix_spec hv
  have hj := bs_ix_lt hv
  subst h2
  refine g_aald S.1 S.2.1 hK hH.1 4 5 rfl rfl rfl h1 hdg ?_
  rw [if_pos hj]
  exact k
theorem xq_rings (S : CallFix p m c cc nL s args lw_all own) (hK : va_K D clA (tysG ct) s) (hH : GH D A (xAs a) H0 (WX ct a ρ st) H locs) (hv : bs_ix 5 i = some j) (hdg : decode cc pc = .ok (.aaload, 1)) (k : W p l e R s m args below meth c H locs cells slots Q (F0 m (pc + 1) ls (va_rf (ag a (6 + j)) :: rest))) : W p l e R s m args below meth c H locs cells slots Q (F0 m pc ls (.int i :: .ref (ah a 5) :: rest)) := by
  obtain ⟨h1, h2⟩ := bs_ix_spec hv
  subst h2
  exact g_aald S.1 S.2.1 hK hH.1 5 5 rfl rfl rfl h1 hdg k
theorem xq_kept (S : CallFix p m c cc nL s args lw_all own) (hK : va_K D clA (tysG ct) s) (hH : GH D A (xAs a) H0 (WX ct a ρ st) H locs) (hv : bs_ix 3 i = some j) (hdg : decode cc pc = .ok (.aaload, 1)) (k : W p l e R s m args below meth c H locs cells slots Q (F0 m (pc + 1) ls (va_rf (ak1 a j) :: rest))) : W p l e R s m args below meth c H locs cells slots Q (F0 m pc ls (.int i :: .ref (ah a 13) :: rest)) := by
  obtain ⟨h1, h2⟩ := bs_ix_spec hv
  subst h2
  exact g_aald S.1 S.2.1 hK hH.1 13 6 rfl rfl rfl h1 hdg k
theorem xo_r (hH : GH D A (xAs a) H0 (WX ct a ρ st) H locs) (hj : j < 10) : (ar a j).isSome = (xr st j).isSome := hH.2.2.2.2.2.1.1 j hj
theorem xo_g (hH : GH D A (xAs a) H0 (WX ct a ρ st) H locs) (hj : j < 11) : (ag a j).isSome = (xg st j).isSome := hH.2.2.2.2.2.1.2.1 j hj
theorem xo_k (hH : GH D A (xAs a) H0 (WX ct a ρ st) H locs) (hj : j < 3) : (ak1 a j).isSome = (xk st j).isSome := by
  rw [← hH.2.2.2.2.2.1.2.2.1 j hj]
  unfold ak1
  cases ak a j <;> rfl
theorem xo_rd {t : Nat} (hH : GH D A (xAs a) H0 (WX ct a (some t) st) H locs) : xv st = va_rf (ar a (6 + t)) ∧ t < 4 := hH.2.2.2.2.2.2 t rfl
theorem x_recv (hK : va_K D clA (tysG ct) s) (hH : GH D A (xAs a) H0 (WX ct a ρ st) H locs) : ∃ cellB : Cell, H[ah a 0]? = some cellB ∧ cellB.vm.isStatics = false ∧ s.vm.findClass RX0 = some cellB.cls := va_recv hK hH.1 (ci := 0) (q0 := 0) rfl rfl
/-- nothing is being read any more -/
theorem x_still (hH : GH D A (xAs a) H0 (WX ct a ρ st) H locs) : GH D A (xAs a) H0 (WX ct a none st) H locs := ⟨hH.1, hH.2.1, hH.2.2.1, hH.2.2.2.1, hH.2.2.2.2.1, hH.2.2.2.2.2.1, fun t q => by cases q⟩
end XW
section XW2
variable {p : Program} {l : Launch} {e : Env} {R : Room} {s : State} {m : MethodId} {args : Array Value} {below : List Frame} {meth : Method} {c : Code} {H : Heap} {locs : List Loc} {cells slots : Nat} {Q : State → Prop}
variable {cc : ByteArray} {pc nL : Nat} {ls : Array Slot} {rest : List Value} {D : va_G} {ct : Nat → ClassId} {A : Nat → Prop} {H0 : Heap} {a : XA} {ρ : Option Nat} {st st1 : XS} {i x v : Int32}
theorem xg_finding (S : CallFix p m c cc nL s args lw_all RX0) (hK : va_K D clA (tysG ct) s) (hH : GH D A (xAs a) H0 (WX ct a ρ st) H locs) (hdg : decode cc pc = .ok (.getfield 1, 3)) (k : W p l e R s m args below meth c H locs cells slots Q (F0 m (pc + 3) ls (.int (xi st 0) :: rest))) : W p l e R s m args below meth c H locs cells slots Q (F0 m pc ls (.ref (ah a 0) :: rest)) :=
  va_get (D := D) (cl := clA) (ci := 0) (v := .int (xi st 0)) (C := RX0) (T := TX0) (N := 27) S.1 S.2.1 S.2.2.2.2 in_X0 S.2.2.2.1 hK hH.1 0 rfl rfl 0 (by decide) (S.2.2.2.2 _ q107) (fun _ h9 => h9) rfl hdg k
theorem xp_finding (S : CallFix p m c cc nL s args lw_all RX0) (hK : va_K D clA (tysG ct) s) (hH : GH D A (xAs a) H0 (WX ct a ρ st) H locs) (hdg : decode cc pc = .ok (.putfield 1, 3)) (he : st1 = sxi st 0 x) (k : ∀ (H1 : Heap) (locs1 : List Loc), GH D A (xAs a) H0 (WX ct a ρ st1) H1 locs1 → W p l e R s m args below meth c H1 locs1 cells slots Q (F0 m (pc + 3) ls (rest))) : W p l e R s m args below meth c H locs cells slots Q (F0 m pc ls (.int x :: .ref (ah a 0) :: rest)) := by
  subst he
  refine va_put (D := D) (cl := clA) (ci := 0) (v := .int x) (ty := .int) (C := RX0) (T := TX0) (N := 27) S.1 S.2.1 S.2.2.2.2 in_X0 tyX0 tyX0_ok nmX0 S.2.2.2.1 hK hH.1 hH.D hH.2.2.1 0 rfl rfl 0 (by decide) (S.2.2.2.2 _ q107) (fun _ h9 => h9) rfl (by decide +kernel) rfl rfl (Nat.le_of_ble_eq_true rfl) hdg (fun H1 locs1 hP hD hS => ?_)
  exact k H1 locs1 ⟨hP, va_D.set hH.2.1 (p := 0) rfl, hS, hH.2.2.2.1, hH.2.2.2.2.1, hH.2.2.2.2.2⟩
theorem xg_findings (S : CallFix p m c cc nL s args lw_all RX0) (hK : va_K D clA (tysG ct) s) (hH : GH D A (xAs a) H0 (WX ct a ρ st) H locs) (hdg : decode cc pc = .ok (.getfield 7, 3)) (k : W p l e R s m args below meth c H locs cells slots Q (F0 m (pc + 3) ls (.ref (ah a 1) :: rest))) : W p l e R s m args below meth c H locs cells slots Q (F0 m pc ls (.ref (ah a 0) :: rest)) :=
  va_get (D := D) (cl := clA) (ci := 0) (v := .ref (ah a 1)) (C := RX0) (T := TX0) (N := 27) S.1 S.2.1 S.2.2.2.2 in_X0 S.2.2.2.1 hK hH.1 0 rfl rfl 1 (by decide) (S.2.2.2.2 _ q108) (fun _ h9 => h9) rfl hdg k
theorem xl_findings (S : CallFix p m c cc nL s args lw_all RX0) (hK : va_K D clA (tysG ct) s) (hH : GH D A (xAs a) H0 (WX ct a ρ st) H locs) (hv : bs_ld (xa st 0) 6 i = some v) (hdg : decode cc pc = .ok (.iaload, 1)) (k : W p l e R s m args below meth c H locs cells slots Q (F0 m (pc + 1) ls (.int v :: rest))) : W p l e R s m args below meth c H locs cells slots Q (F0 m pc ls (.int i :: .ref (ah a 1) :: rest)) := by
  obtain ⟨h1, h2⟩ := bs_ld_spec hv
  refine va_iald (cl := clA) S.1 S.2.1 hK hH.1 1 0 rfl rfl h1 hdg ?_
  rw [h2]
  exact k
theorem xs_findings (S : CallFix p m c cc nL s args lw_all RX0) (hK : va_K D clA (tysG ct) s) (hH : GH D A (xAs a) H0 (WX ct a ρ st) H locs) (hv : xast st 0 6 i x = some st1) (hdg : decode cc pc = .ok (.iastore, 1)) (k : ∀ (H1 : Heap) (locs1 : List Loc), GH D A (xAs a) H0 (WX ct a ρ st1) H1 locs1 → W p l e R s m args below meth c H1 locs1 cells slots Q (F0 m (pc + 1) ls (rest))) : W p l e R s m args below meth c H locs cells slots Q (F0 m pc ls (.int x :: .int i :: .ref (ah a 1) :: rest)) := by
  obtain ⟨h1, h2⟩ := xast_spec hv
  subst h2
  refine va_iast (cl := clA) S.1 S.2.1 hK hH.1 hH.D hH.2.2.1 1 0 rfl rfl h1 hdg (fun H1 locs1 hP hD hS => ?_)
  exact k H1 locs1 ⟨hP, va_D.set hH.2.1 (p := 1) rfl, hS, hH.2.2.2.1, hH.2.2.2.2.1, hH.2.2.2.2.2⟩
theorem xg_asked (S : CallFix p m c cc nL s args lw_all RX0) (hK : va_K D clA (tysG ct) s) (hH : GH D A (xAs a) H0 (WX ct a ρ st) H locs) (hdg : decode cc pc = .ok (.getfield 11, 3)) (k : W p l e R s m args below meth c H locs cells slots Q (F0 m (pc + 3) ls (.int (xi st 1) :: rest))) : W p l e R s m args below meth c H locs cells slots Q (F0 m pc ls (.ref (ah a 0) :: rest)) :=
  va_get (D := D) (cl := clA) (ci := 0) (v := .int (xi st 1)) (C := RX0) (T := TX0) (N := 27) S.1 S.2.1 S.2.2.2.2 in_X0 S.2.2.2.1 hK hH.1 0 rfl rfl 2 (by decide) (S.2.2.2.2 _ q109) (fun _ h9 => h9) rfl hdg k
theorem xp_asked (S : CallFix p m c cc nL s args lw_all RX0) (hK : va_K D clA (tysG ct) s) (hH : GH D A (xAs a) H0 (WX ct a ρ st) H locs) (hdg : decode cc pc = .ok (.putfield 11, 3)) (he : st1 = sxi st 1 x) (k : ∀ (H1 : Heap) (locs1 : List Loc), GH D A (xAs a) H0 (WX ct a ρ st1) H1 locs1 → W p l e R s m args below meth c H1 locs1 cells slots Q (F0 m (pc + 3) ls (rest))) : W p l e R s m args below meth c H locs cells slots Q (F0 m pc ls (.int x :: .ref (ah a 0) :: rest)) := by
  subst he
  refine va_put (D := D) (cl := clA) (ci := 0) (v := .int x) (ty := .int) (C := RX0) (T := TX0) (N := 27) S.1 S.2.1 S.2.2.2.2 in_X0 tyX0 tyX0_ok nmX0 S.2.2.2.1 hK hH.1 hH.D hH.2.2.1 0 rfl rfl 2 (by decide) (S.2.2.2.2 _ q109) (fun _ h9 => h9) rfl (by decide +kernel) rfl rfl (Nat.le_of_ble_eq_true rfl) hdg (fun H1 locs1 hP hD hS => ?_)
  exact k H1 locs1 ⟨hP, va_D.set hH.2.1 (p := 0) rfl, hS, hH.2.2.2.1, hH.2.2.2.2.1, hH.2.2.2.2.2⟩
theorem xg_upper (S : CallFix p m c cc nL s args lw_all RX0) (hK : va_K D clA (tysG ct) s) (hH : GH D A (xAs a) H0 (WX ct a ρ st) H locs) (hdg : decode cc pc = .ok (.getfield 14, 3)) (k : W p l e R s m args below meth c H locs cells slots Q (F0 m (pc + 3) ls (.long (xl st 0) :: rest))) : W p l e R s m args below meth c H locs cells slots Q (F0 m pc ls (.ref (ah a 0) :: rest)) :=
  va_get (D := D) (cl := clA) (ci := 0) (v := .long (xl st 0)) (C := RX0) (T := TX0) (N := 27) S.1 S.2.1 S.2.2.2.2 in_X0 S.2.2.2.1 hK hH.1 0 rfl rfl 3 (by decide) (S.2.2.2.2 _ q110) (fun _ h9 => h9) rfl hdg k
theorem xp_upper {y : Int64} (S : CallFix p m c cc nL s args lw_all RX0) (hK : va_K D clA (tysG ct) s) (hH : GH D A (xAs a) H0 (WX ct a ρ st) H locs) (hdg : decode cc pc = .ok (.putfield 14, 3)) (he : st1 = sxl st 0 y) (k : ∀ (H1 : Heap) (locs1 : List Loc), GH D A (xAs a) H0 (WX ct a ρ st1) H1 locs1 → W p l e R s m args below meth c H1 locs1 cells slots Q (F0 m (pc + 3) ls (rest))) : W p l e R s m args below meth c H locs cells slots Q (F0 m pc ls (.long y :: .ref (ah a 0) :: rest)) := by
  subst he
  refine va_put (D := D) (cl := clA) (ci := 0) (v := .long y) (ty := .long) (C := RX0) (T := TX0) (N := 27) S.1 S.2.1 S.2.2.2.2 in_X0 tyX0 tyX0_ok nmX0 S.2.2.2.1 hK hH.1 hH.D hH.2.2.1 0 rfl rfl 3 (by decide) (S.2.2.2.2 _ q110) (fun _ h9 => h9) rfl (by decide +kernel) rfl rfl (Nat.le_of_ble_eq_true rfl) hdg (fun H1 locs1 hP hD hS => ?_)
  exact k H1 locs1 ⟨hP, va_D.set hH.2.1 (p := 0) rfl, hS, hH.2.2.2.1, hH.2.2.2.2.1, hH.2.2.2.2.2⟩
theorem xg_lower (S : CallFix p m c cc nL s args lw_all RX0) (hK : va_K D clA (tysG ct) s) (hH : GH D A (xAs a) H0 (WX ct a ρ st) H locs) (hdg : decode cc pc = .ok (.getfield 18, 3)) (k : W p l e R s m args below meth c H locs cells slots Q (F0 m (pc + 3) ls (.long (xl st 1) :: rest))) : W p l e R s m args below meth c H locs cells slots Q (F0 m pc ls (.ref (ah a 0) :: rest)) :=
  va_get (D := D) (cl := clA) (ci := 0) (v := .long (xl st 1)) (C := RX0) (T := TX0) (N := 27) S.1 S.2.1 S.2.2.2.2 in_X0 S.2.2.2.1 hK hH.1 0 rfl rfl 4 (by decide) (S.2.2.2.2 _ q111) (fun _ h9 => h9) rfl hdg k
theorem xp_lower {y : Int64} (S : CallFix p m c cc nL s args lw_all RX0) (hK : va_K D clA (tysG ct) s) (hH : GH D A (xAs a) H0 (WX ct a ρ st) H locs) (hdg : decode cc pc = .ok (.putfield 18, 3)) (he : st1 = sxl st 1 y) (k : ∀ (H1 : Heap) (locs1 : List Loc), GH D A (xAs a) H0 (WX ct a ρ st1) H1 locs1 → W p l e R s m args below meth c H1 locs1 cells slots Q (F0 m (pc + 3) ls (rest))) : W p l e R s m args below meth c H locs cells slots Q (F0 m pc ls (.long y :: .ref (ah a 0) :: rest)) := by
  subst he
  refine va_put (D := D) (cl := clA) (ci := 0) (v := .long y) (ty := .long) (C := RX0) (T := TX0) (N := 27) S.1 S.2.1 S.2.2.2.2 in_X0 tyX0 tyX0_ok nmX0 S.2.2.2.1 hK hH.1 hH.D hH.2.2.1 0 rfl rfl 4 (by decide) (S.2.2.2.2 _ q111) (fun _ h9 => h9) rfl (by decide +kernel) rfl rfl (Nat.le_of_ble_eq_true rfl) hdg (fun H1 locs1 hP hD hS => ?_)
  exact k H1 locs1 ⟨hP, va_D.set hH.2.1 (p := 0) rfl, hS, hH.2.2.2.1, hH.2.2.2.2.1, hH.2.2.2.2.2⟩
theorem xg_rows (S : CallFix p m c cc nL s args lw_all RX0) (hK : va_K D clA (tysG ct) s) (hH : GH D A (xAs a) H0 (WX ct a ρ st) H locs) (hdg : decode cc pc = .ok (.getfield 28, 3)) (k : W p l e R s m args below meth c H locs cells slots Q (F0 m (pc + 3) ls (.ref (ah a 2) :: rest))) : W p l e R s m args below meth c H locs cells slots Q (F0 m pc ls (.ref (ah a 0) :: rest)) :=
  va_get (D := D) (cl := clA) (ci := 0) (v := .ref (ah a 2)) (C := RX0) (T := TX0) (N := 27) S.1 S.2.1 S.2.2.2.2 in_X0 S.2.2.2.1 hK hH.1 0 rfl rfl 5 (by decide) (S.2.2.2.2 _ q112) (fun _ h9 => h9) rfl hdg k
theorem xg_texts (S : CallFix p m c cc nL s args lw_all RX0) (hK : va_K D clA (tysG ct) s) (hH : GH D A (xAs a) H0 (WX ct a ρ st) H locs) (hdg : decode cc pc = .ok (.getfield 34, 3)) (k : W p l e R s m args below meth c H locs cells slots Q (F0 m (pc + 3) ls (.ref (ah a 3) :: rest))) : W p l e R s m args below meth c H locs cells slots Q (F0 m pc ls (.ref (ah a 0) :: rest)) :=
  va_get (D := D) (cl := clA) (ci := 0) (v := .ref (ah a 3)) (C := RX0) (T := TX0) (N := 27) S.1 S.2.1 S.2.2.2.2 in_X0 S.2.2.2.1 hK hH.1 0 rfl rfl 6 (by decide) (S.2.2.2.2 _ q113) (fun _ h9 => h9) rfl hdg k
theorem xg_likes (S : CallFix p m c cc nL s args lw_all RX0) (hK : va_K D clA (tysG ct) s) (hH : GH D A (xAs a) H0 (WX ct a ρ st) H locs) (hdg : decode cc pc = .ok (.getfield 40, 3)) (k : W p l e R s m args below meth c H locs cells slots Q (F0 m (pc + 3) ls (.ref (ah a 4) :: rest))) : W p l e R s m args below meth c H locs cells slots Q (F0 m pc ls (.ref (ah a 0) :: rest)) :=
  va_get (D := D) (cl := clA) (ci := 0) (v := .ref (ah a 4)) (C := RX0) (T := TX0) (N := 27) S.1 S.2.1 S.2.2.2.2 in_X0 S.2.2.2.1 hK hH.1 0 rfl rfl 7 (by decide) (S.2.2.2.2 _ q114) (fun _ h9 => h9) rfl hdg k
theorem xg_ringMany (S : CallFix p m c cc nL s args lw_all RX0) (hK : va_K D clA (tysG ct) s) (hH : GH D A (xAs a) H0 (WX ct a ρ st) H locs) (hdg : decode cc pc = .ok (.getfield 169, 3)) (k : W p l e R s m args below meth c H locs cells slots Q (F0 m (pc + 3) ls (.int (xi st 2) :: rest))) : W p l e R s m args below meth c H locs cells slots Q (F0 m pc ls (.ref (ah a 0) :: rest)) :=
  va_get (D := D) (cl := clA) (ci := 0) (v := .int (xi st 2)) (C := RX0) (T := TX0) (N := 27) S.1 S.2.1 S.2.2.2.2 in_X0 S.2.2.2.1 hK hH.1 0 rfl rfl 8 (by decide) (S.2.2.2.2 _ q115) (fun _ h9 => h9) rfl hdg k
theorem xp_ringMany (S : CallFix p m c cc nL s args lw_all RX0) (hK : va_K D clA (tysG ct) s) (hH : GH D A (xAs a) H0 (WX ct a ρ st) H locs) (hdg : decode cc pc = .ok (.putfield 169, 3)) (he : st1 = sxi st 2 x) (k : ∀ (H1 : Heap) (locs1 : List Loc), GH D A (xAs a) H0 (WX ct a ρ st1) H1 locs1 → W p l e R s m args below meth c H1 locs1 cells slots Q (F0 m (pc + 3) ls (rest))) : W p l e R s m args below meth c H locs cells slots Q (F0 m pc ls (.int x :: .ref (ah a 0) :: rest)) := by
  subst he
  refine va_put (D := D) (cl := clA) (ci := 0) (v := .int x) (ty := .int) (C := RX0) (T := TX0) (N := 27) S.1 S.2.1 S.2.2.2.2 in_X0 tyX0 tyX0_ok nmX0 S.2.2.2.1 hK hH.1 hH.D hH.2.2.1 0 rfl rfl 8 (by decide) (S.2.2.2.2 _ q115) (fun _ h9 => h9) rfl (by decide +kernel) rfl rfl (Nat.le_of_ble_eq_true rfl) hdg (fun H1 locs1 hP hD hS => ?_)
  exact k H1 locs1 ⟨hP, va_D.set hH.2.1 (p := 0) rfl, hS, hH.2.2.2.1, hH.2.2.2.2.1, hH.2.2.2.2.2⟩
theorem xg_bedMany (S : CallFix p m c cc nL s args lw_all RX0) (hK : va_K D clA (tysG ct) s) (hH : GH D A (xAs a) H0 (WX ct a ρ st) H locs) (hdg : decode cc pc = .ok (.getfield 172, 3)) (k : W p l e R s m args below meth c H locs cells slots Q (F0 m (pc + 3) ls (.int (xi st 3) :: rest))) : W p l e R s m args below meth c H locs cells slots Q (F0 m pc ls (.ref (ah a 0) :: rest)) :=
  va_get (D := D) (cl := clA) (ci := 0) (v := .int (xi st 3)) (C := RX0) (T := TX0) (N := 27) S.1 S.2.1 S.2.2.2.2 in_X0 S.2.2.2.1 hK hH.1 0 rfl rfl 9 (by decide) (S.2.2.2.2 _ q116) (fun _ h9 => h9) rfl hdg k
theorem xp_bedMany (S : CallFix p m c cc nL s args lw_all RX0) (hK : va_K D clA (tysG ct) s) (hH : GH D A (xAs a) H0 (WX ct a ρ st) H locs) (hdg : decode cc pc = .ok (.putfield 172, 3)) (he : st1 = sxi st 3 x) (k : ∀ (H1 : Heap) (locs1 : List Loc), GH D A (xAs a) H0 (WX ct a ρ st1) H1 locs1 → W p l e R s m args below meth c H1 locs1 cells slots Q (F0 m (pc + 3) ls (rest))) : W p l e R s m args below meth c H locs cells slots Q (F0 m pc ls (.int x :: .ref (ah a 0) :: rest)) := by
  subst he
  refine va_put (D := D) (cl := clA) (ci := 0) (v := .int x) (ty := .int) (C := RX0) (T := TX0) (N := 27) S.1 S.2.1 S.2.2.2.2 in_X0 tyX0 tyX0_ok nmX0 S.2.2.2.1 hK hH.1 hH.D hH.2.2.1 0 rfl rfl 9 (by decide) (S.2.2.2.2 _ q116) (fun _ h9 => h9) rfl (by decide +kernel) rfl rfl (Nat.le_of_ble_eq_true rfl) hdg (fun H1 locs1 hP hD hS => ?_)
  exact k H1 locs1 ⟨hP, va_D.set hH.2.1 (p := 0) rfl, hS, hH.2.2.2.1, hH.2.2.2.2.1, hH.2.2.2.2.2⟩
theorem xg_rings (S : CallFix p m c cc nL s args lw_all RX0) (hK : va_K D clA (tysG ct) s) (hH : GH D A (xAs a) H0 (WX ct a ρ st) H locs) (hdg : decode cc pc = .ok (.getfield 44, 3)) (k : W p l e R s m args below meth c H locs cells slots Q (F0 m (pc + 3) ls (.ref (ah a 5) :: rest))) : W p l e R s m args below meth c H locs cells slots Q (F0 m pc ls (.ref (ah a 0) :: rest)) :=
  va_get (D := D) (cl := clA) (ci := 0) (v := .ref (ah a 5)) (C := RX0) (T := TX0) (N := 27) S.1 S.2.1 S.2.2.2.2 in_X0 S.2.2.2.1 hK hH.1 0 rfl rfl 10 (by decide) (S.2.2.2.2 _ q117) (fun _ h9 => h9) rfl hdg k
theorem xg_middleOf (S : CallFix p m c cc nL s args lw_all RX0) (hK : va_K D clA (tysG ct) s) (hH : GH D A (xAs a) H0 (WX ct a ρ st) H locs) (hdg : decode cc pc = .ok (.getfield 47, 3)) (k : W p l e R s m args below meth c H locs cells slots Q (F0 m (pc + 3) ls (.ref (ah a 6) :: rest))) : W p l e R s m args below meth c H locs cells slots Q (F0 m pc ls (.ref (ah a 0) :: rest)) :=
  va_get (D := D) (cl := clA) (ci := 0) (v := .ref (ah a 6)) (C := RX0) (T := TX0) (N := 27) S.1 S.2.1 S.2.2.2.2 in_X0 S.2.2.2.1 hK hH.1 0 rfl rfl 11 (by decide) (S.2.2.2.2 _ q118) (fun _ h9 => h9) rfl hdg k
theorem xl_middleOf (S : CallFix p m c cc nL s args lw_all RX0) (hK : va_K D clA (tysG ct) s) (hH : GH D A (xAs a) H0 (WX ct a ρ st) H locs) (hv : bs_ld (xa st 1) 5 i = some v) (hdg : decode cc pc = .ok (.iaload, 1)) (k : W p l e R s m args below meth c H locs cells slots Q (F0 m (pc + 1) ls (.int v :: rest))) : W p l e R s m args below meth c H locs cells slots Q (F0 m pc ls (.int i :: .ref (ah a 6) :: rest)) := by
  obtain ⟨h1, h2⟩ := bs_ld_spec hv
  refine va_iald (cl := clA) S.1 S.2.1 hK hH.1 6 0 rfl rfl h1 hdg ?_
  rw [h2]
  exact k
theorem xs_middleOf (S : CallFix p m c cc nL s args lw_all RX0) (hK : va_K D clA (tysG ct) s) (hH : GH D A (xAs a) H0 (WX ct a ρ st) H locs) (hv : xast st 1 5 i x = some st1) (hdg : decode cc pc = .ok (.iastore, 1)) (k : ∀ (H1 : Heap) (locs1 : List Loc), GH D A (xAs a) H0 (WX ct a ρ st1) H1 locs1 → W p l e R s m args below meth c H1 locs1 cells slots Q (F0 m (pc + 1) ls (rest))) : W p l e R s m args below meth c H locs cells slots Q (F0 m pc ls (.int x :: .int i :: .ref (ah a 6) :: rest)) := by
  obtain ⟨h1, h2⟩ := xast_spec hv
  subst h2
  refine va_iast (cl := clA) S.1 S.2.1 hK hH.1 hH.D hH.2.2.1 6 0 rfl rfl h1 hdg (fun H1 locs1 hP hD hS => ?_)
  exact k H1 locs1 ⟨hP, va_D.set hH.2.1 (p := 6) rfl, hS, hH.2.2.2.1, hH.2.2.2.2.1, hH.2.2.2.2.2⟩
theorem xg_wideOf (S : CallFix p m c cc nL s args lw_all RX0) (hK : va_K D clA (tysG ct) s) (hH : GH D A (xAs a) H0 (WX ct a ρ st) H locs) (hdg : decode cc pc = .ok (.getfield 50, 3)) (k : W p l e R s m args below meth c H locs cells slots Q (F0 m (pc + 3) ls (.ref (ah a 7) :: rest))) : W p l e R s m args below meth c H locs cells slots Q (F0 m pc ls (.ref (ah a 0) :: rest)) :=
  va_get (D := D) (cl := clA) (ci := 0) (v := .ref (ah a 7)) (C := RX0) (T := TX0) (N := 27) S.1 S.2.1 S.2.2.2.2 in_X0 S.2.2.2.1 hK hH.1 0 rfl rfl 12 (by decide) (S.2.2.2.2 _ q119) (fun _ h9 => h9) rfl hdg k
theorem xl_wideOf (S : CallFix p m c cc nL s args lw_all RX0) (hK : va_K D clA (tysG ct) s) (hH : GH D A (xAs a) H0 (WX ct a ρ st) H locs) (hv : bs_ld (xa st 2) 5 i = some v) (hdg : decode cc pc = .ok (.iaload, 1)) (k : W p l e R s m args below meth c H locs cells slots Q (F0 m (pc + 1) ls (.int v :: rest))) : W p l e R s m args below meth c H locs cells slots Q (F0 m pc ls (.int i :: .ref (ah a 7) :: rest)) := by
  obtain ⟨h1, h2⟩ := bs_ld_spec hv
  refine va_iald (cl := clA) S.1 S.2.1 hK hH.1 7 0 rfl rfl h1 hdg ?_
  rw [h2]
  exact k
theorem xs_wideOf (S : CallFix p m c cc nL s args lw_all RX0) (hK : va_K D clA (tysG ct) s) (hH : GH D A (xAs a) H0 (WX ct a ρ st) H locs) (hv : xast st 2 5 i x = some st1) (hdg : decode cc pc = .ok (.iastore, 1)) (k : ∀ (H1 : Heap) (locs1 : List Loc), GH D A (xAs a) H0 (WX ct a ρ st1) H1 locs1 → W p l e R s m args below meth c H1 locs1 cells slots Q (F0 m (pc + 1) ls (rest))) : W p l e R s m args below meth c H locs cells slots Q (F0 m pc ls (.int x :: .int i :: .ref (ah a 7) :: rest)) := by
  obtain ⟨h1, h2⟩ := xast_spec hv
  subst h2
  refine va_iast (cl := clA) S.1 S.2.1 hK hH.1 hH.D hH.2.2.1 7 0 rfl rfl h1 hdg (fun H1 locs1 hP hD hS => ?_)
  exact k H1 locs1 ⟨hP, va_D.set hH.2.1 (p := 7) rfl, hS, hH.2.2.2.1, hH.2.2.2.2.1, hH.2.2.2.2.2⟩
theorem xg_reading (S : CallFix p m c cc nL s args lw_all RX0) (hK : va_K D clA (tysG ct) s) (hH : GH D A (xAs a) H0 (WX ct a ρ st) H locs) (hdg : decode cc pc = .ok (.getfield 136, 3)) (k : W p l e R s m args below meth c H locs cells slots Q (F0 m (pc + 3) ls (xv st :: rest))) : W p l e R s m args below meth c H locs cells slots Q (F0 m pc ls (.ref (ah a 0) :: rest)) :=
  va_get (D := D) (cl := clA) (ci := 0) (v := xv st) (C := RX0) (T := TX0) (N := 27) S.1 S.2.1 S.2.2.2.2 in_X0 S.2.2.2.1 hK hH.1 0 rfl rfl 13 (by decide) (S.2.2.2.2 _ q120) (fun _ h9 => h9) rfl hdg k
theorem xg_readAt (S : CallFix p m c cc nL s args lw_all RX0) (hK : va_K D clA (tysG ct) s) (hH : GH D A (xAs a) H0 (WX ct a ρ st) H locs) (hdg : decode cc pc = .ok (.getfield 133, 3)) (k : W p l e R s m args below meth c H locs cells slots Q (F0 m (pc + 3) ls (.int (xi st 4) :: rest))) : W p l e R s m args below meth c H locs cells slots Q (F0 m pc ls (.ref (ah a 0) :: rest)) :=
  va_get (D := D) (cl := clA) (ci := 0) (v := .int (xi st 4)) (C := RX0) (T := TX0) (N := 27) S.1 S.2.1 S.2.2.2.2 in_X0 S.2.2.2.1 hK hH.1 0 rfl rfl 14 (by decide) (S.2.2.2.2 _ q121) (fun _ h9 => h9) rfl hdg k
theorem xp_readAt (S : CallFix p m c cc nL s args lw_all RX0) (hK : va_K D clA (tysG ct) s) (hH : GH D A (xAs a) H0 (WX ct a ρ st) H locs) (hdg : decode cc pc = .ok (.putfield 133, 3)) (he : st1 = sxi st 4 x) (k : ∀ (H1 : Heap) (locs1 : List Loc), GH D A (xAs a) H0 (WX ct a ρ st1) H1 locs1 → W p l e R s m args below meth c H1 locs1 cells slots Q (F0 m (pc + 3) ls (rest))) : W p l e R s m args below meth c H locs cells slots Q (F0 m pc ls (.int x :: .ref (ah a 0) :: rest)) := by
  subst he
  refine va_put (D := D) (cl := clA) (ci := 0) (v := .int x) (ty := .int) (C := RX0) (T := TX0) (N := 27) S.1 S.2.1 S.2.2.2.2 in_X0 tyX0 tyX0_ok nmX0 S.2.2.2.1 hK hH.1 hH.D hH.2.2.1 0 rfl rfl 14 (by decide) (S.2.2.2.2 _ q121) (fun _ h9 => h9) rfl (by decide +kernel) rfl rfl (Nat.le_of_ble_eq_true rfl) hdg (fun H1 locs1 hP hD hS => ?_)
  exact k H1 locs1 ⟨hP, va_D.set hH.2.1 (p := 0) rfl, hS, hH.2.2.2.1, hH.2.2.2.2.1, hH.2.2.2.2.2⟩
theorem xg_readRings (S : CallFix p m c cc nL s args lw_all RX0) (hK : va_K D clA (tysG ct) s) (hH : GH D A (xAs a) H0 (WX ct a ρ st) H locs) (hdg : decode cc pc = .ok (.getfield 155, 3)) (k : W p l e R s m args below meth c H locs cells slots Q (F0 m (pc + 3) ls (.int (xi st 5) :: rest))) : W p l e R s m args below meth c H locs cells slots Q (F0 m pc ls (.ref (ah a 0) :: rest)) :=
  va_get (D := D) (cl := clA) (ci := 0) (v := .int (xi st 5)) (C := RX0) (T := TX0) (N := 27) S.1 S.2.1 S.2.2.2.2 in_X0 S.2.2.2.1 hK hH.1 0 rfl rfl 15 (by decide) (S.2.2.2.2 _ q122) (fun _ h9 => h9) rfl hdg k
theorem xp_readRings (S : CallFix p m c cc nL s args lw_all RX0) (hK : va_K D clA (tysG ct) s) (hH : GH D A (xAs a) H0 (WX ct a ρ st) H locs) (hdg : decode cc pc = .ok (.putfield 155, 3)) (he : st1 = sxi st 5 x) (k : ∀ (H1 : Heap) (locs1 : List Loc), GH D A (xAs a) H0 (WX ct a ρ st1) H1 locs1 → W p l e R s m args below meth c H1 locs1 cells slots Q (F0 m (pc + 3) ls (rest))) : W p l e R s m args below meth c H locs cells slots Q (F0 m pc ls (.int x :: .ref (ah a 0) :: rest)) := by
  subst he
  refine va_put (D := D) (cl := clA) (ci := 0) (v := .int x) (ty := .int) (C := RX0) (T := TX0) (N := 27) S.1 S.2.1 S.2.2.2.2 in_X0 tyX0 tyX0_ok nmX0 S.2.2.2.1 hK hH.1 hH.D hH.2.2.1 0 rfl rfl 15 (by decide) (S.2.2.2.2 _ q122) (fun _ h9 => h9) rfl (by decide +kernel) rfl rfl (Nat.le_of_ble_eq_true rfl) hdg (fun H1 locs1 hP hD hS => ?_)
  exact k H1 locs1 ⟨hP, va_D.set hH.2.1 (p := 0) rfl, hS, hH.2.2.2.1, hH.2.2.2.2.1, hH.2.2.2.2.2⟩
theorem xg_readBeds (S : CallFix p m c cc nL s args lw_all RX0) (hK : va_K D clA (tysG ct) s) (hH : GH D A (xAs a) H0 (WX ct a ρ st) H locs) (hdg : decode cc pc = .ok (.getfield 146, 3)) (k : W p l e R s m args below meth c H locs cells slots Q (F0 m (pc + 3) ls (.int (xi st 6) :: rest))) : W p l e R s m args below meth c H locs cells slots Q (F0 m pc ls (.ref (ah a 0) :: rest)) :=
  va_get (D := D) (cl := clA) (ci := 0) (v := .int (xi st 6)) (C := RX0) (T := TX0) (N := 27) S.1 S.2.1 S.2.2.2.2 in_X0 S.2.2.2.1 hK hH.1 0 rfl rfl 16 (by decide) (S.2.2.2.2 _ q123) (fun _ h9 => h9) rfl hdg k
theorem xp_readBeds (S : CallFix p m c cc nL s args lw_all RX0) (hK : va_K D clA (tysG ct) s) (hH : GH D A (xAs a) H0 (WX ct a ρ st) H locs) (hdg : decode cc pc = .ok (.putfield 146, 3)) (he : st1 = sxi st 6 x) (k : ∀ (H1 : Heap) (locs1 : List Loc), GH D A (xAs a) H0 (WX ct a ρ st1) H1 locs1 → W p l e R s m args below meth c H1 locs1 cells slots Q (F0 m (pc + 3) ls (rest))) : W p l e R s m args below meth c H locs cells slots Q (F0 m pc ls (.int x :: .ref (ah a 0) :: rest)) := by
  subst he
  refine va_put (D := D) (cl := clA) (ci := 0) (v := .int x) (ty := .int) (C := RX0) (T := TX0) (N := 27) S.1 S.2.1 S.2.2.2.2 in_X0 tyX0 tyX0_ok nmX0 S.2.2.2.1 hK hH.1 hH.D hH.2.2.1 0 rfl rfl 16 (by decide) (S.2.2.2.2 _ q123) (fun _ h9 => h9) rfl (by decide +kernel) rfl rfl (Nat.le_of_ble_eq_true rfl) hdg (fun H1 locs1 hP hD hS => ?_)
  exact k H1 locs1 ⟨hP, va_D.set hH.2.1 (p := 0) rfl, hS, hH.2.2.2.1, hH.2.2.2.2.1, hH.2.2.2.2.2⟩
theorem xg_readRing (S : CallFix p m c cc nL s args lw_all RX0) (hK : va_K D clA (tysG ct) s) (hH : GH D A (xAs a) H0 (WX ct a ρ st) H locs) (hdg : decode cc pc = .ok (.getfield 53, 3)) (k : W p l e R s m args below meth c H locs cells slots Q (F0 m (pc + 3) ls (.ref (ah a 8) :: rest))) : W p l e R s m args below meth c H locs cells slots Q (F0 m pc ls (.ref (ah a 0) :: rest)) :=
  va_get (D := D) (cl := clA) (ci := 0) (v := .ref (ah a 8)) (C := RX0) (T := TX0) (N := 27) S.1 S.2.1 S.2.2.2.2 in_X0 S.2.2.2.1 hK hH.1 0 rfl rfl 17 (by decide) (S.2.2.2.2 _ q124) (fun _ h9 => h9) rfl hdg k
theorem xl_readRing (S : CallFix p m c cc nL s args lw_all RX0) (hK : va_K D clA (tysG ct) s) (hH : GH D A (xAs a) H0 (WX ct a ρ st) H locs) (hv : bs_ld (xa st 3) 15 i = some v) (hdg : decode cc pc = .ok (.iaload, 1)) (k : W p l e R s m args below meth c H locs cells slots Q (F0 m (pc + 1) ls (.int v :: rest))) : W p l e R s m args below meth c H locs cells slots Q (F0 m pc ls (.int i :: .ref (ah a 8) :: rest)) := by
  obtain ⟨h1, h2⟩ := bs_ld_spec hv
  refine va_iald (cl := clA) S.1 S.2.1 hK hH.1 8 0 rfl rfl h1 hdg ?_
  rw [h2]
  exact k
theorem xs_readRing (S : CallFix p m c cc nL s args lw_all RX0) (hK : va_K D clA (tysG ct) s) (hH : GH D A (xAs a) H0 (WX ct a ρ st) H locs) (hv : xast st 3 15 i x = some st1) (hdg : decode cc pc = .ok (.iastore, 1)) (k : ∀ (H1 : Heap) (locs1 : List Loc), GH D A (xAs a) H0 (WX ct a ρ st1) H1 locs1 → W p l e R s m args below meth c H1 locs1 cells slots Q (F0 m (pc + 1) ls (rest))) : W p l e R s m args below meth c H locs cells slots Q (F0 m pc ls (.int x :: .int i :: .ref (ah a 8) :: rest)) := by
  obtain ⟨h1, h2⟩ := xast_spec hv
  subst h2
  refine va_iast (cl := clA) S.1 S.2.1 hK hH.1 hH.D hH.2.2.1 8 0 rfl rfl h1 hdg (fun H1 locs1 hP hD hS => ?_)
  exact k H1 locs1 ⟨hP, va_D.set hH.2.1 (p := 8) rfl, hS, hH.2.2.2.1, hH.2.2.2.2.1, hH.2.2.2.2.2⟩
theorem xg_readBed (S : CallFix p m c cc nL s args lw_all RX0) (hK : va_K D clA (tysG ct) s) (hH : GH D A (xAs a) H0 (WX ct a ρ st) H locs) (hdg : decode cc pc = .ok (.getfield 56, 3)) (k : W p l e R s m args below meth c H locs cells slots Q (F0 m (pc + 3) ls (.ref (ah a 9) :: rest))) : W p l e R s m args below meth c H locs cells slots Q (F0 m pc ls (.ref (ah a 0) :: rest)) :=
  va_get (D := D) (cl := clA) (ci := 0) (v := .ref (ah a 9)) (C := RX0) (T := TX0) (N := 27) S.1 S.2.1 S.2.2.2.2 in_X0 S.2.2.2.1 hK hH.1 0 rfl rfl 18 (by decide) (S.2.2.2.2 _ q125) (fun _ h9 => h9) rfl hdg k
theorem xl_readBed (S : CallFix p m c cc nL s args lw_all RX0) (hK : va_K D clA (tysG ct) s) (hH : GH D A (xAs a) H0 (WX ct a ρ st) H locs) (hv : bs_ld (xa st 4) 12 i = some v) (hdg : decode cc pc = .ok (.iaload, 1)) (k : W p l e R s m args below meth c H locs cells slots Q (F0 m (pc + 1) ls (.int v :: rest))) : W p l e R s m args below meth c H locs cells slots Q (F0 m pc ls (.int i :: .ref (ah a 9) :: rest)) := by
  obtain ⟨h1, h2⟩ := bs_ld_spec hv
  refine va_iald (cl := clA) S.1 S.2.1 hK hH.1 9 0 rfl rfl h1 hdg ?_
  rw [h2]
  exact k
theorem xs_readBed (S : CallFix p m c cc nL s args lw_all RX0) (hK : va_K D clA (tysG ct) s) (hH : GH D A (xAs a) H0 (WX ct a ρ st) H locs) (hv : xast st 4 12 i x = some st1) (hdg : decode cc pc = .ok (.iastore, 1)) (k : ∀ (H1 : Heap) (locs1 : List Loc), GH D A (xAs a) H0 (WX ct a ρ st1) H1 locs1 → W p l e R s m args below meth c H1 locs1 cells slots Q (F0 m (pc + 1) ls (rest))) : W p l e R s m args below meth c H locs cells slots Q (F0 m pc ls (.int x :: .int i :: .ref (ah a 9) :: rest)) := by
  obtain ⟨h1, h2⟩ := xast_spec hv
  subst h2
  refine va_iast (cl := clA) S.1 S.2.1 hK hH.1 hH.D hH.2.2.1 9 0 rfl rfl h1 hdg (fun H1 locs1 hP hD hS => ?_)
  exact k H1 locs1 ⟨hP, va_D.set hH.2.1 (p := 9) rfl, hS, hH.2.2.2.1, hH.2.2.2.2.1, hH.2.2.2.2.2⟩
theorem xg_yearNow (S : CallFix p m c cc nL s args lw_all RX0) (hK : va_K D clA (tysG ct) s) (hH : GH D A (xAs a) H0 (WX ct a ρ st) H locs) (hdg : decode cc pc = .ok (.getfield 179, 3)) (k : W p l e R s m args below meth c H locs cells slots Q (F0 m (pc + 3) ls (.int (xi st 7) :: rest))) : W p l e R s m args below meth c H locs cells slots Q (F0 m pc ls (.ref (ah a 0) :: rest)) :=
  va_get (D := D) (cl := clA) (ci := 0) (v := .int (xi st 7)) (C := RX0) (T := TX0) (N := 27) S.1 S.2.1 S.2.2.2.2 in_X0 S.2.2.2.1 hK hH.1 0 rfl rfl 19 (by decide) (S.2.2.2.2 _ q128) (fun _ h9 => h9) rfl hdg k
theorem xp_yearNow (S : CallFix p m c cc nL s args lw_all RX0) (hK : va_K D clA (tysG ct) s) (hH : GH D A (xAs a) H0 (WX ct a ρ st) H locs) (hdg : decode cc pc = .ok (.putfield 179, 3)) (he : st1 = sxi st 7 x) (k : ∀ (H1 : Heap) (locs1 : List Loc), GH D A (xAs a) H0 (WX ct a ρ st1) H1 locs1 → W p l e R s m args below meth c H1 locs1 cells slots Q (F0 m (pc + 3) ls (rest))) : W p l e R s m args below meth c H locs cells slots Q (F0 m pc ls (.int x :: .ref (ah a 0) :: rest)) := by
  subst he
  refine va_put (D := D) (cl := clA) (ci := 0) (v := .int x) (ty := .int) (C := RX0) (T := TX0) (N := 27) S.1 S.2.1 S.2.2.2.2 in_X0 tyX0 tyX0_ok nmX0 S.2.2.2.1 hK hH.1 hH.D hH.2.2.1 0 rfl rfl 19 (by decide) (S.2.2.2.2 _ q128) (fun _ h9 => h9) rfl (by decide +kernel) rfl rfl (Nat.le_of_ble_eq_true rfl) hdg (fun H1 locs1 hP hD hS => ?_)
  exact k H1 locs1 ⟨hP, va_D.set hH.2.1 (p := 0) rfl, hS, hH.2.2.2.1, hH.2.2.2.2.1, hH.2.2.2.2.2⟩
theorem xg_up (S : CallFix p m c cc nL s args lw_all RX0) (hK : va_K D clA (tysG ct) s) (hH : GH D A (xAs a) H0 (WX ct a ρ st) H locs) (hdg : decode cc pc = .ok (.getfield 182, 3)) (k : W p l e R s m args below meth c H locs cells slots Q (F0 m (pc + 3) ls (.int (xi st 8) :: rest))) : W p l e R s m args below meth c H locs cells slots Q (F0 m pc ls (.ref (ah a 0) :: rest)) :=
  va_get (D := D) (cl := clA) (ci := 0) (v := .int (xi st 8)) (C := RX0) (T := TX0) (N := 27) S.1 S.2.1 S.2.2.2.2 in_X0 S.2.2.2.1 hK hH.1 0 rfl rfl 20 (by decide) (S.2.2.2.2 _ q129) (fun _ h9 => h9) rfl hdg k
theorem xp_up (S : CallFix p m c cc nL s args lw_all RX0) (hK : va_K D clA (tysG ct) s) (hH : GH D A (xAs a) H0 (WX ct a ρ st) H locs) (hdg : decode cc pc = .ok (.putfield 182, 3)) (he : st1 = sxi st 8 x) (k : ∀ (H1 : Heap) (locs1 : List Loc), GH D A (xAs a) H0 (WX ct a ρ st1) H1 locs1 → W p l e R s m args below meth c H1 locs1 cells slots Q (F0 m (pc + 3) ls (rest))) : W p l e R s m args below meth c H locs cells slots Q (F0 m pc ls (.int x :: .ref (ah a 0) :: rest)) := by
  subst he
  refine va_put (D := D) (cl := clA) (ci := 0) (v := .int x) (ty := .int) (C := RX0) (T := TX0) (N := 27) S.1 S.2.1 S.2.2.2.2 in_X0 tyX0 tyX0_ok nmX0 S.2.2.2.1 hK hH.1 hH.D hH.2.2.1 0 rfl rfl 20 (by decide) (S.2.2.2.2 _ q129) (fun _ h9 => h9) rfl (by decide +kernel) rfl rfl (Nat.le_of_ble_eq_true rfl) hdg (fun H1 locs1 hP hD hS => ?_)
  exact k H1 locs1 ⟨hP, va_D.set hH.2.1 (p := 0) rfl, hS, hH.2.2.2.1, hH.2.2.2.2.1, hH.2.2.2.2.2⟩
theorem xg_places (S : CallFix p m c cc nL s args lw_all RX0) (hK : va_K D clA (tysG ct) s) (hH : GH D A (xAs a) H0 (WX ct a ρ st) H locs) (hdg : decode cc pc = .ok (.getfield 59, 3)) (k : W p l e R s m args below meth c H locs cells slots Q (F0 m (pc + 3) ls (.ref (ah a 10) :: rest))) : W p l e R s m args below meth c H locs cells slots Q (F0 m pc ls (.ref (ah a 0) :: rest)) :=
  va_get (D := D) (cl := clA) (ci := 0) (v := .ref (ah a 10)) (C := RX0) (T := TX0) (N := 27) S.1 S.2.1 S.2.2.2.2 in_X0 S.2.2.2.1 hK hH.1 0 rfl rfl 21 (by decide) (S.2.2.2.2 _ q130) (fun _ h9 => h9) rfl hdg k
theorem xl_places (S : CallFix p m c cc nL s args lw_all RX0) (hK : va_K D clA (tysG ct) s) (hH : GH D A (xAs a) H0 (WX ct a ρ st) H locs) (hv : bs_ld (xa st 5) 6 i = some v) (hdg : decode cc pc = .ok (.iaload, 1)) (k : W p l e R s m args below meth c H locs cells slots Q (F0 m (pc + 1) ls (.int v :: rest))) : W p l e R s m args below meth c H locs cells slots Q (F0 m pc ls (.int i :: .ref (ah a 10) :: rest)) := by
  obtain ⟨h1, h2⟩ := bs_ld_spec hv
  refine va_iald (cl := clA) S.1 S.2.1 hK hH.1 10 0 rfl rfl h1 hdg ?_
  rw [h2]
  exact k
theorem xs_places (S : CallFix p m c cc nL s args lw_all RX0) (hK : va_K D clA (tysG ct) s) (hH : GH D A (xAs a) H0 (WX ct a ρ st) H locs) (hv : xast st 5 6 i x = some st1) (hdg : decode cc pc = .ok (.iastore, 1)) (k : ∀ (H1 : Heap) (locs1 : List Loc), GH D A (xAs a) H0 (WX ct a ρ st1) H1 locs1 → W p l e R s m args below meth c H1 locs1 cells slots Q (F0 m (pc + 1) ls (rest))) : W p l e R s m args below meth c H locs cells slots Q (F0 m pc ls (.int x :: .int i :: .ref (ah a 10) :: rest)) := by
  obtain ⟨h1, h2⟩ := xast_spec hv
  subst h2
  refine va_iast (cl := clA) S.1 S.2.1 hK hH.1 hH.D hH.2.2.1 10 0 rfl rfl h1 hdg (fun H1 locs1 hP hD hS => ?_)
  exact k H1 locs1 ⟨hP, va_D.set hH.2.1 (p := 10) rfl, hS, hH.2.2.2.1, hH.2.2.2.2.1, hH.2.2.2.2.2⟩
theorem xg_thoughts (S : CallFix p m c cc nL s args lw_all RX0) (hK : va_K D clA (tysG ct) s) (hH : GH D A (xAs a) H0 (WX ct a ρ st) H locs) (hdg : decode cc pc = .ok (.getfield 62, 3)) (k : W p l e R s m args below meth c H locs cells slots Q (F0 m (pc + 3) ls (.ref (ah a 11) :: rest))) : W p l e R s m args below meth c H locs cells slots Q (F0 m pc ls (.ref (ah a 0) :: rest)) :=
  va_get (D := D) (cl := clA) (ci := 0) (v := .ref (ah a 11)) (C := RX0) (T := TX0) (N := 27) S.1 S.2.1 S.2.2.2.2 in_X0 S.2.2.2.1 hK hH.1 0 rfl rfl 22 (by decide) (S.2.2.2.2 _ q131) (fun _ h9 => h9) rfl hdg k
theorem xl_thoughts (S : CallFix p m c cc nL s args lw_all RX0) (hK : va_K D clA (tysG ct) s) (hH : GH D A (xAs a) H0 (WX ct a ρ st) H locs) (hv : bs_ld (xa st 6) 6 i = some v) (hdg : decode cc pc = .ok (.iaload, 1)) (k : W p l e R s m args below meth c H locs cells slots Q (F0 m (pc + 1) ls (.int v :: rest))) : W p l e R s m args below meth c H locs cells slots Q (F0 m pc ls (.int i :: .ref (ah a 11) :: rest)) := by
  obtain ⟨h1, h2⟩ := bs_ld_spec hv
  refine va_iald (cl := clA) S.1 S.2.1 hK hH.1 11 0 rfl rfl h1 hdg ?_
  rw [h2]
  exact k
theorem xs_thoughts (S : CallFix p m c cc nL s args lw_all RX0) (hK : va_K D clA (tysG ct) s) (hH : GH D A (xAs a) H0 (WX ct a ρ st) H locs) (hv : xast st 6 6 i x = some st1) (hdg : decode cc pc = .ok (.iastore, 1)) (k : ∀ (H1 : Heap) (locs1 : List Loc), GH D A (xAs a) H0 (WX ct a ρ st1) H1 locs1 → W p l e R s m args below meth c H1 locs1 cells slots Q (F0 m (pc + 1) ls (rest))) : W p l e R s m args below meth c H locs cells slots Q (F0 m pc ls (.int x :: .int i :: .ref (ah a 11) :: rest)) := by
  obtain ⟨h1, h2⟩ := xast_spec hv
  subst h2
  refine va_iast (cl := clA) S.1 S.2.1 hK hH.1 hH.D hH.2.2.1 11 0 rfl rfl h1 hdg (fun H1 locs1 hP hD hS => ?_)
  exact k H1 locs1 ⟨hP, va_D.set hH.2.1 (p := 11) rfl, hS, hH.2.2.2.1, hH.2.2.2.2.1, hH.2.2.2.2.2⟩
theorem xg_deedMany (S : CallFix p m c cc nL s args lw_all RX0) (hK : va_K D clA (tysG ct) s) (hH : GH D A (xAs a) H0 (WX ct a ρ st) H locs) (hdg : decode cc pc = .ok (.getfield 74, 3)) (k : W p l e R s m args below meth c H locs cells slots Q (F0 m (pc + 3) ls (.int (xi st 9) :: rest))) : W p l e R s m args below meth c H locs cells slots Q (F0 m pc ls (.ref (ah a 0) :: rest)) :=
  va_get (D := D) (cl := clA) (ci := 0) (v := .int (xi st 9)) (C := RX0) (T := TX0) (N := 27) S.1 S.2.1 S.2.2.2.2 in_X0 S.2.2.2.1 hK hH.1 0 rfl rfl 23 (by decide) (S.2.2.2.2 _ q132) (fun _ h9 => h9) rfl hdg k
theorem xp_deedMany (S : CallFix p m c cc nL s args lw_all RX0) (hK : va_K D clA (tysG ct) s) (hH : GH D A (xAs a) H0 (WX ct a ρ st) H locs) (hdg : decode cc pc = .ok (.putfield 74, 3)) (he : st1 = sxi st 9 x) (k : ∀ (H1 : Heap) (locs1 : List Loc), GH D A (xAs a) H0 (WX ct a ρ st1) H1 locs1 → W p l e R s m args below meth c H1 locs1 cells slots Q (F0 m (pc + 3) ls (rest))) : W p l e R s m args below meth c H locs cells slots Q (F0 m pc ls (.int x :: .ref (ah a 0) :: rest)) := by
  subst he
  refine va_put (D := D) (cl := clA) (ci := 0) (v := .int x) (ty := .int) (C := RX0) (T := TX0) (N := 27) S.1 S.2.1 S.2.2.2.2 in_X0 tyX0 tyX0_ok nmX0 S.2.2.2.1 hK hH.1 hH.D hH.2.2.1 0 rfl rfl 23 (by decide) (S.2.2.2.2 _ q132) (fun _ h9 => h9) rfl (by decide +kernel) rfl rfl (Nat.le_of_ble_eq_true rfl) hdg (fun H1 locs1 hP hD hS => ?_)
  exact k H1 locs1 ⟨hP, va_D.set hH.2.1 (p := 0) rfl, hS, hH.2.2.2.1, hH.2.2.2.2.1, hH.2.2.2.2.2⟩
theorem xg_ahead (S : CallFix p m c cc nL s args lw_all RX0) (hK : va_K D clA (tysG ct) s) (hH : GH D A (xAs a) H0 (WX ct a ρ st) H locs) (hdg : decode cc pc = .ok (.getfield 65, 3)) (k : W p l e R s m args below meth c H locs cells slots Q (F0 m (pc + 3) ls (.ref (ah a 12) :: rest))) : W p l e R s m args below meth c H locs cells slots Q (F0 m pc ls (.ref (ah a 0) :: rest)) :=
  va_get (D := D) (cl := clA) (ci := 0) (v := .ref (ah a 12)) (C := RX0) (T := TX0) (N := 27) S.1 S.2.1 S.2.2.2.2 in_X0 S.2.2.2.1 hK hH.1 0 rfl rfl 24 (by decide) (S.2.2.2.2 _ q133) (fun _ h9 => h9) rfl hdg k
theorem xl_ahead (S : CallFix p m c cc nL s args lw_all RX0) (hK : va_K D clA (tysG ct) s) (hH : GH D A (xAs a) H0 (WX ct a ρ st) H locs) (hv : bs_ld (xa st 7) 560 i = some v) (hdg : decode cc pc = .ok (.iaload, 1)) (k : W p l e R s m args below meth c H locs cells slots Q (F0 m (pc + 1) ls (.int v :: rest))) : W p l e R s m args below meth c H locs cells slots Q (F0 m pc ls (.int i :: .ref (ah a 12) :: rest)) := by
  obtain ⟨h1, h2⟩ := bs_ld_spec hv
  refine va_iald (cl := clA) S.1 S.2.1 hK hH.1 12 0 rfl rfl h1 hdg ?_
  rw [h2]
  exact k
theorem xs_ahead (S : CallFix p m c cc nL s args lw_all RX0) (hK : va_K D clA (tysG ct) s) (hH : GH D A (xAs a) H0 (WX ct a ρ st) H locs) (hv : xast st 7 560 i x = some st1) (hdg : decode cc pc = .ok (.iastore, 1)) (k : ∀ (H1 : Heap) (locs1 : List Loc), GH D A (xAs a) H0 (WX ct a ρ st1) H1 locs1 → W p l e R s m args below meth c H1 locs1 cells slots Q (F0 m (pc + 1) ls (rest))) : W p l e R s m args below meth c H locs cells slots Q (F0 m pc ls (.int x :: .int i :: .ref (ah a 12) :: rest)) := by
  obtain ⟨h1, h2⟩ := xast_spec hv
  subst h2
  refine va_iast (cl := clA) S.1 S.2.1 hK hH.1 hH.D hH.2.2.1 12 0 rfl rfl h1 hdg (fun H1 locs1 hP hD hS => ?_)
  exact k H1 locs1 ⟨hP, va_D.set hH.2.1 (p := 12) rfl, hS, hH.2.2.2.1, hH.2.2.2.2.1, hH.2.2.2.2.2⟩
theorem xg_kept (S : CallFix p m c cc nL s args lw_all RX0) (hK : va_K D clA (tysG ct) s) (hH : GH D A (xAs a) H0 (WX ct a ρ st) H locs) (hdg : decode cc pc = .ok (.getfield 70, 3)) (k : W p l e R s m args below meth c H locs cells slots Q (F0 m (pc + 3) ls (.ref (ah a 13) :: rest))) : W p l e R s m args below meth c H locs cells slots Q (F0 m pc ls (.ref (ah a 0) :: rest)) :=
  va_get (D := D) (cl := clA) (ci := 0) (v := .ref (ah a 13)) (C := RX0) (T := TX0) (N := 27) S.1 S.2.1 S.2.2.2.2 in_X0 S.2.2.2.1 hK hH.1 0 rfl rfl 25 (by decide) (S.2.2.2.2 _ q134) (fun _ h9 => h9) rfl hdg k
theorem xg_h0 (S : CallFix p m c cc nL s args lw_all RX0) (hK : va_K D clA (tysG ct) s) (hH : GH D A (xAs a) H0 (WX ct a ρ st) H locs) (hdg : decode cc pc = .ok (.getfield 345, 3)) (k : W p l e R s m args below meth c H locs cells slots Q (F0 m (pc + 3) ls (.long (xl st 2) :: rest))) : W p l e R s m args below meth c H locs cells slots Q (F0 m pc ls (.ref (ah a 0) :: rest)) :=
  va_get (D := D) (cl := clA) (ci := 0) (v := .long (xl st 2)) (C := RX0) (T := TX0) (N := 27) S.1 S.2.1 S.2.2.2.2 in_X0 S.2.2.2.1 hK hH.1 0 rfl rfl 26 (by decide) (S.2.2.2.2 _ q135) (fun _ h9 => h9) rfl hdg k
theorem xp_h0 {y : Int64} (S : CallFix p m c cc nL s args lw_all RX0) (hK : va_K D clA (tysG ct) s) (hH : GH D A (xAs a) H0 (WX ct a ρ st) H locs) (hdg : decode cc pc = .ok (.putfield 345, 3)) (he : st1 = sxl st 2 y) (k : ∀ (H1 : Heap) (locs1 : List Loc), GH D A (xAs a) H0 (WX ct a ρ st1) H1 locs1 → W p l e R s m args below meth c H1 locs1 cells slots Q (F0 m (pc + 3) ls (rest))) : W p l e R s m args below meth c H locs cells slots Q (F0 m pc ls (.long y :: .ref (ah a 0) :: rest)) := by
  subst he
  refine va_put (D := D) (cl := clA) (ci := 0) (v := .long y) (ty := .long) (C := RX0) (T := TX0) (N := 27) S.1 S.2.1 S.2.2.2.2 in_X0 tyX0 tyX0_ok nmX0 S.2.2.2.1 hK hH.1 hH.D hH.2.2.1 0 rfl rfl 26 (by decide) (S.2.2.2.2 _ q135) (fun _ h9 => h9) rfl (by decide +kernel) rfl rfl (Nat.le_of_ble_eq_true rfl) hdg (fun H1 locs1 hP hD hS => ?_)
  exact k H1 locs1 ⟨hP, va_D.set hH.2.1 (p := 0) rfl, hS, hH.2.2.2.1, hH.2.2.2.2.1, hH.2.2.2.2.2⟩
end XW2
