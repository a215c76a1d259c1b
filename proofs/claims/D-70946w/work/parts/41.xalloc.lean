/-! what is laid anew: a piece of the world is replaced -/
set_option maxRecDepth 100000
theorem P_mem {D : va_G} {cl : List vw_C} {ws : va_W} {H : Heap} : va_P D cl ws H ↔ ∀ x ∈ ws, va_at D cl x H := by
  constructor
  · intro h x hx
    obtain ⟨k, hk⟩ := List.mem_iff_getElem?.mp hx
    exact h k x hk
  · intro h k x hk
    exact h x (List.mem_of_getElem? hk)
theorem D_iff {A : Nat → Prop} {ws : va_W} : va_D A ws ↔ (ws.map fun x => x.1).Nodup ∧ ∀ x ∈ ws, A x.1 := by
  constructor
  · intro h
    refine ⟨?_, fun x hx => ?_⟩
    · rw [List.nodup_iff_pairwise_ne, List.pairwise_map, List.pairwise_iff_getElem]
      intro i j hi hj hij e
      have := h.1 i j _ _ (List.getElem?_eq_getElem hi) (List.getElem?_eq_getElem hj) e
      omega
    · obtain ⟨k, hk⟩ := List.mem_iff_getElem?.mp hx
      exact h.2 k x hk
  · rintro ⟨h1, h2⟩
    rw [List.nodup_iff_pairwise_ne, List.pairwise_map, List.pairwise_iff_getElem] at h1
    refine ⟨fun i j p q hi hj e => ?_, fun k x hk => h2 x (List.mem_of_getElem? hk)⟩
    obtain ⟨li, ei⟩ := List.getElem?_eq_some_iff.mp hi
    obtain ⟨lj, ej⟩ := List.getElem?_eq_some_iff.mp hj
    rcases Nat.lt_trichotomy i j with c | c | c
    · exact absurd (by rw [ei, ej]; exact e) (h1 i j li lj c)
    · exact c
    · exact absurd (by rw [ei, ej]; exact e.symm) (h1 j i lj li c)
/-- the old piece goes, what lay behind all comes into its place -/
theorem w_repl {D : va_G} {cl : List vw_C} {A : Nat → Prop} {Q1 old P2 new : va_W} {H : Heap} (hP : va_P D cl (Q1 ++ (old ++ P2) ++ new) H) (hD : va_D A (Q1 ++ (old ++ P2) ++ new)) : va_P D cl (Q1 ++ (new ++ P2)) H ∧ va_D A (Q1 ++ (new ++ P2)) := by
  have hm : ∀ x, x ∈ Q1 ++ (new ++ P2) → x ∈ Q1 ++ (old ++ P2) ++ new := by
    intro x hx
    simp only [List.mem_append] at hx ⊢
    rcases hx with h | h | h
    · exact Or.inl (Or.inl h)
    · exact Or.inr h
    · exact Or.inl (Or.inr (Or.inr h))
  refine ⟨P_mem.mpr fun x hx => P_mem.mp hP x (hm x hx), ?_⟩
  obtain ⟨h1, h2⟩ := D_iff.mp hD
  refine D_iff.mpr ⟨?_, fun x hx => h2 x (hm x hx)⟩
  have hs : ((Q1 ++ (P2 ++ new)).map fun x => x.1).Sublist ((Q1 ++ (old ++ P2) ++ new).map fun x => x.1) := by
    refine List.Sublist.map _ ?_
    rw [List.append_assoc]
    refine List.Sublist.append (List.Sublist.refl _) ?_
    rw [List.append_assoc]
    exact List.sublist_append_right _ _
  have hp : List.Perm ((Q1 ++ (P2 ++ new)).map fun x => x.1) ((Q1 ++ (new ++ P2)).map fun x => x.1) := List.Perm.map _ (List.Perm.append_left Q1 List.perm_append_comm)
  exact List.Nodup.perm (List.Nodup.sublist hs h1) hp
def axr (a : XA) (j : Nat) (o : Option Nat) : XA := (a.1, va_up a.2.1 j o, a.2.2)
def axg (a : XA) (j : Nat) (o : Option Nat) : XA := (a.1, a.2.1, va_up a.2.2.1 j o, a.2.2.2)
def axk (a : XA) (j : Nat) (o : Option (Nat × Nat × Nat)) : XA := (a.1, a.2.1, a.2.2.1, va_up a.2.2.2 j o)
theorem up_self {α : Type} {f : Nat → α} {j : Nat} {o : α} : va_up f j o j = o := va_up_self f j o
theorem wx_row (ct : Nat → ClassId) (a : XA) (ρ : Option Nat) (s : XS) {j : Nat} (hj : j < 6) : ∃ P1 P2 : va_W, (WX ct a ρ s).1 = P1 ++ (rP ct a s j ++ P2) ∧ 14 ≤ P1.length ∧ P1[2]? = (WX ct a ρ s).1[2]? ∧ ∀ (ρ' : Option Nat) (o : Option Nat) (v : Option (Nat × (Nat → Int32))), (WX ct (axr a j o) ρ' (sxr s j v)).1 = P1.set 2 (ah a 2, .inl (ct 3, 6, .inr (.inr (.inr (.inr (va_up (fun i => if i < 6 then ar a i else none) j o)))))) ++ (rP ct (axr a j o) (sxr s j v) j ++ P2) := by
  obtain ⟨L1, L2, hL⟩ := fl_split (rP ct a s) j 10 (Nat.lt_of_lt_of_le hj (by decide))
  refine ⟨WX0 ct a s ++ L1, L2 ++ ((List.range 11).flatMap (gP a s) ++ (List.range 3).flatMap (kP ct a s)), ?_, ?_, ?_, fun ρ' o v => ?_⟩
  · show WX0 ct a s ++ ((List.range 10).flatMap (rP ct a s) ++ _) = _
    rw [hL _ (fun _ _ => rfl)]
    simp only [List.append_assoc]
  · rw [List.length_append]
    exact Nat.le_add_right 14 _
  · rfl
  · show WX0 ct (axr a j o) (sxr s j v) ++ ((List.range 10).flatMap (rP ct (axr a j o) (sxr s j v)) ++ ((List.range 11).flatMap (gP a s) ++ (List.range 3).flatMap (kP ct a s))) = _
    rw [hL (rP ct (axr a j o) (sxr s j v)) (fun i hi => by unfold rP ar xr axr sxr; simp only [va_up_ne _ _ hi])]
    have e2 : (fun i => if i < 6 then ar (axr a j o) i else none) = va_up (fun i => if i < 6 then ar a i else none) j o := by
      funext i
      by_cases c : i = j
      · subst c
        rw [va_up_self, if_pos hj]
        exact va_up_self _ _ _
      · rw [va_up_ne _ _ c]
        show (if i < 6 then va_up (ar a) j o i else none) = _
        rw [va_up_ne _ _ c]
    have e3 : (fun i => ar (axr a j o) (6 + i)) = fun i => ar a (6 + i) := by
      funext i
      exact va_up_ne _ _ (by omega)
    have e : WX0 ct (axr a j o) (sxr s j v) = (WX0 ct a s).set 2 (ah a 2, .inl (ct 3, 6, .inr (.inr (.inr (.inr (va_up (fun i => if i < 6 then ar a i else none) j o)))))) := by
      unfold WX0
      rw [e2, e3]
      rfl
    rw [e, List.set_append_left _ _ (by show 2 < 14; decide)]
    simp only [List.append_assoc]
theorem wx_text (ct : Nat → ClassId) (a : XA) (ρ : Option Nat) (s : XS) {j : Nat} (hj : j < 4) : ∃ P1 P2 : va_W, (WX ct a ρ s).1 = P1 ++ (rP ct a s (6 + j) ++ P2) ∧ 14 ≤ P1.length ∧ P1[3]? = (WX ct a ρ s).1[3]? ∧ ∀ (ρ' : Option Nat) (o : Option Nat) (v : Option (Nat × (Nat → Int32))), (WX ct (axr a (6 + j) o) ρ' (sxr s (6 + j) v)).1 = P1.set 3 (ah a 3, .inl (ct 4, 4, .inr (.inr (.inr (.inr (va_up (fun i => ar a (6 + i)) j o)))))) ++ (rP ct (axr a (6 + j) o) (sxr s (6 + j) v) (6 + j) ++ P2) := by
  obtain ⟨L1, L2, hL⟩ := fl_split (rP ct a s) (6 + j) 10 (Nat.add_lt_add_left hj 6)
  refine ⟨WX0 ct a s ++ L1, L2 ++ ((List.range 11).flatMap (gP a s) ++ (List.range 3).flatMap (kP ct a s)), ?_, ?_, ?_, fun ρ' o v => ?_⟩
  · show WX0 ct a s ++ ((List.range 10).flatMap (rP ct a s) ++ _) = _
    rw [hL _ (fun _ _ => rfl)]
    simp only [List.append_assoc]
  · rw [List.length_append]
    exact Nat.le_add_right 14 _
  · rfl
  · show WX0 ct (axr a (6 + j) o) (sxr s (6 + j) v) ++ ((List.range 10).flatMap (rP ct (axr a (6 + j) o) (sxr s (6 + j) v)) ++ ((List.range 11).flatMap (gP a s) ++ (List.range 3).flatMap (kP ct a s))) = _
    rw [hL (rP ct (axr a (6 + j) o) (sxr s (6 + j) v)) (fun i hi => by unfold rP ar xr axr sxr; simp only [va_up_ne _ _ hi])]
    have e2 : (fun i => if i < 6 then ar (axr a (6 + j) o) i else none) = fun i => if i < 6 then ar a i else none := by
      funext i
      by_cases c : i < 6
      · rw [if_pos c, if_pos c]
        exact va_up_ne _ _ (by omega)
      · rw [if_neg c, if_neg c]
    have e3 : (fun i => ar (axr a (6 + j) o) (6 + i)) = va_up (fun i => ar a (6 + i)) j o := by
      funext i
      by_cases c : i = j
      · subst c
        rw [va_up_self]
        exact va_up_self _ _ _
      · rw [va_up_ne _ _ c]
        exact va_up_ne _ _ (by omega)
    have e : WX0 ct (axr a (6 + j) o) (sxr s (6 + j) v) = (WX0 ct a s).set 3 (ah a 3, .inl (ct 4, 4, .inr (.inr (.inr (.inr (va_up (fun i => ar a (6 + i)) j o)))))) := by
      unfold WX0
      rw [e2, e3]
      rfl
    rw [e, List.set_append_left _ _ (by show 3 < 14; decide)]
    simp only [List.append_assoc]
theorem wx_like (ct : Nat → ClassId) (a : XA) (ρ : Option Nat) (s : XS) {j : Nat} (hj : j < 6) : ∃ P1 P2 : va_W, (WX ct a ρ s).1 = P1 ++ (gP a s j ++ P2) ∧ 14 ≤ P1.length ∧ P1[4]? = (WX ct a ρ s).1[4]? ∧ ∀ (ρ' : Option Nat) (o : Option Nat) (v : Option (Nat × Int32)), (WX ct (axg a j o) ρ' (sxg s j v)).1 = P1.set 4 (ah a 4, .inl (ct 5, 6, .inr (.inr (.inr (.inr (va_up (fun i => if i < 6 then ag a i else none) j o)))))) ++ (gP (axg a j o) (sxg s j v) j ++ P2) := by
  obtain ⟨L1, L2, hL⟩ := fl_split (gP a s) j 11 (Nat.lt_of_lt_of_le hj (by decide))
  refine ⟨WX0 ct a s ++ ((List.range 10).flatMap (rP ct a s) ++ L1), L2 ++ (List.range 3).flatMap (kP ct a s), ?_, ?_, ?_, fun ρ' o v => ?_⟩
  · show WX0 ct a s ++ ((List.range 10).flatMap (rP ct a s) ++ ((List.range 11).flatMap (gP a s) ++ _)) = _
    rw [hL _ (fun _ _ => rfl)]
    simp only [List.append_assoc]
  · rw [List.length_append]
    exact Nat.le_add_right 14 _
  · rfl
  · show WX0 ct (axg a j o) (sxg s j v) ++ ((List.range 10).flatMap (rP ct a s) ++ ((List.range 11).flatMap (gP (axg a j o) (sxg s j v)) ++ (List.range 3).flatMap (kP ct a s))) = _
    rw [hL (gP (axg a j o) (sxg s j v)) (fun i hi => by unfold gP ag xg axg sxg; simp only [va_up_ne _ _ hi])]
    have e2 : (fun i => if i < 6 then ag (axg a j o) i else none) = va_up (fun i => if i < 6 then ag a i else none) j o := by
      funext i
      by_cases c : i = j
      · subst c
        rw [va_up_self, if_pos hj]
        exact va_up_self _ _ _
      · rw [va_up_ne _ _ c]
        show (if i < 6 then va_up (ag a) j o i else none) = _
        rw [va_up_ne _ _ c]
    have e3 : (fun i => ag (axg a j o) (6 + i)) = fun i => ag a (6 + i) := by
      funext i
      exact va_up_ne _ _ (by omega)
    have e : WX0 ct (axg a j o) (sxg s j v) = (WX0 ct a s).set 4 (ah a 4, .inl (ct 5, 6, .inr (.inr (.inr (.inr (va_up (fun i => if i < 6 then ag a i else none) j o)))))) := by
      unfold WX0
      rw [e2, e3]
      rfl
    rw [e, List.set_append_left _ _ (by show 4 < 14; decide)]
    simp only [List.append_assoc]
theorem wx_ring (ct : Nat → ClassId) (a : XA) (ρ : Option Nat) (s : XS) {j : Nat} (hj : j < 5) : ∃ P1 P2 : va_W, (WX ct a ρ s).1 = P1 ++ (gP a s (6 + j) ++ P2) ∧ 14 ≤ P1.length ∧ P1[5]? = (WX ct a ρ s).1[5]? ∧ ∀ (ρ' : Option Nat) (o : Option Nat) (v : Option (Nat × Int32)), (WX ct (axg a (6 + j) o) ρ' (sxg s (6 + j) v)).1 = P1.set 5 (ah a 5, .inl (ct 5, 5, .inr (.inr (.inr (.inr (va_up (fun i => ag a (6 + i)) j o)))))) ++ (gP (axg a (6 + j) o) (sxg s (6 + j) v) (6 + j) ++ P2) := by
  obtain ⟨L1, L2, hL⟩ := fl_split (gP a s) (6 + j) 11 (Nat.add_lt_add_left hj 6)
  refine ⟨WX0 ct a s ++ ((List.range 10).flatMap (rP ct a s) ++ L1), L2 ++ (List.range 3).flatMap (kP ct a s), ?_, ?_, ?_, fun ρ' o v => ?_⟩
  · show WX0 ct a s ++ ((List.range 10).flatMap (rP ct a s) ++ ((List.range 11).flatMap (gP a s) ++ _)) = _
    rw [hL _ (fun _ _ => rfl)]
    simp only [List.append_assoc]
  · rw [List.length_append]
    exact Nat.le_add_right 14 _
  · rfl
  · show WX0 ct (axg a (6 + j) o) (sxg s (6 + j) v) ++ ((List.range 10).flatMap (rP ct a s) ++ ((List.range 11).flatMap (gP (axg a (6 + j) o) (sxg s (6 + j) v)) ++ (List.range 3).flatMap (kP ct a s))) = _
    rw [hL (gP (axg a (6 + j) o) (sxg s (6 + j) v)) (fun i hi => by unfold gP ag xg axg sxg; simp only [va_up_ne _ _ hi])]
    have e2 : (fun i => if i < 6 then ag (axg a (6 + j) o) i else none) = fun i => if i < 6 then ag a i else none := by
      funext i
      by_cases c : i < 6
      · rw [if_pos c, if_pos c]
        exact va_up_ne _ _ (by omega)
      · rw [if_neg c, if_neg c]
    have e3 : (fun i => ag (axg a (6 + j) o) (6 + i)) = va_up (fun i => ag a (6 + i)) j o := by
      funext i
      by_cases c : i = j
      · subst c
        rw [va_up_self]
        exact va_up_self _ _ _
      · rw [va_up_ne _ _ c]
        exact va_up_ne _ _ (by omega)
    have e : WX0 ct (axg a (6 + j) o) (sxg s (6 + j) v) = (WX0 ct a s).set 5 (ah a 5, .inl (ct 5, 5, .inr (.inr (.inr (.inr (va_up (fun i => ag a (6 + i)) j o)))))) := by
      unfold WX0
      rw [e2, e3]
      rfl
    rw [e, List.set_append_left _ _ (by show 5 < 14; decide)]
    simp only [List.append_assoc]
theorem wx_kept (ct : Nat → ClassId) (a : XA) (ρ : Option Nat) (s : XS) {j : Nat} (hj : j < 3) : ∃ P1 P2 : va_W, (WX ct a ρ s).1 = P1 ++ (kP ct a s j ++ P2) ∧ 14 ≤ P1.length ∧ P1[13]? = (WX ct a ρ s).1[13]? ∧ ∀ (ρ' : Option Nat) (o : Option (Nat × Nat × Nat)) (v : Option (Int32 × (Nat → Int32) × (Nat → Int32))), (WX ct (axk a j o) ρ' (sxk s j v)).1 = P1.set 13 (ah a 13, .inl (ct 6, 3, .inr (.inr (.inr (.inr (va_up (fun i => ak1 a i) j (o.map fun q => q.1))))))) ++ (kP ct (axk a j o) (sxk s j v) j ++ P2) := by
  obtain ⟨L1, L2, hL⟩ := fl_split (kP ct a s) j 3 hj
  refine ⟨WX0 ct a s ++ ((List.range 10).flatMap (rP ct a s) ++ ((List.range 11).flatMap (gP a s) ++ L1)), L2, ?_, ?_, ?_, fun ρ' o v => ?_⟩
  · show WX0 ct a s ++ ((List.range 10).flatMap (rP ct a s) ++ ((List.range 11).flatMap (gP a s) ++ (List.range 3).flatMap (kP ct a s))) = _
    rw [hL _ (fun _ _ => rfl)]
    simp only [List.append_assoc]
  · rw [List.length_append]
    exact Nat.le_add_right 14 _
  · rfl
  · show WX0 ct (axk a j o) (sxk s j v) ++ ((List.range 10).flatMap (rP ct a s) ++ ((List.range 11).flatMap (gP a s) ++ (List.range 3).flatMap (kP ct (axk a j o) (sxk s j v)))) = _
    rw [hL (kP ct (axk a j o) (sxk s j v)) (fun i hi => by unfold kP ak xk axk sxk; simp only [va_up_ne _ _ hi])]
    have e2 : (fun i => ak1 (axk a j o) i) = va_up (fun i => ak1 a i) j (o.map fun q => q.1) := by
      funext i
      by_cases c : i = j
      · subst c
        rw [va_up_self]
        show (va_up (ak a) i o i).map _ = _
        rw [va_up_self]
      · rw [va_up_ne _ _ c]
        show (va_up (ak a) j o i).map _ = _
        rw [va_up_ne _ _ c]
        rfl
    have e : WX0 ct (axk a j o) (sxk s j v) = (WX0 ct a s).set 13 (ah a 13, .inl (ct 6, 3, .inr (.inr (.inr (.inr (va_up (fun i => ak1 a i) j (o.map fun q => q.1))))))) := by
      unfold WX0
      rw [e2]
      rfl
    rw [e, List.set_append_left _ _ (by show 13 < 14; decide)]
    simp only [List.append_assoc]
/-! every cell of the world is among its addresses -/
theorem wx_as {ct : Nat → ClassId} {a : XA} {ρ : Option Nat} {s : XS} : ∀ x ∈ (WX ct a ρ s).1, x.1 ∈ xAs a := by
  intro x hx
  have hx : x ∈ WX0 ct a s ++ ((List.range 10).flatMap (rP ct a s) ++ ((List.range 11).flatMap (gP a s) ++ (List.range 3).flatMap (kP ct a s))) := hx
  rcases List.mem_append.mp hx with h | h
  · refine List.mem_append_left _ ?_
    have : x.1 ∈ (WX0 ct a s).map fun q => q.1 := List.mem_map.mpr ⟨x, h, rfl⟩
    exact this
  · refine List.mem_append_right _ ?_
    rcases List.mem_append.mp h with h | h
    · refine List.mem_append_left _ ?_
      obtain ⟨j, hj, h⟩ := List.mem_flatMap.mp h
      unfold rP at h
      split at h
      · next q v e1 e2 =>
        rw [List.mem_singleton] at h
        subst h
        exact List.mem_filterMap.mpr ⟨j, hj, e1⟩
      · cases h
    · refine List.mem_append_right _ ?_
      rcases List.mem_append.mp h with h | h
      · refine List.mem_append_left _ ?_
        obtain ⟨j, hj, h⟩ := List.mem_flatMap.mp h
        unfold gP at h
        split at h
        · next q v e1 e2 =>
          rw [List.mem_singleton] at h
          subst h
          exact List.mem_filterMap.mpr ⟨j, hj, e1⟩
        · cases h
      · refine List.mem_append_right _ ?_
        obtain ⟨j, hj, h⟩ := List.mem_flatMap.mp h
        refine List.mem_flatMap.mpr ⟨j, hj, ?_⟩
        unfold kP at h
        split at h
        · next q v e1 e2 =>
          rw [e1]
          simp only [List.mem_cons, List.not_mem_nil, or_false] at h ⊢
          rcases h with rfl | rfl | rfl
          · exact Or.inl rfl
          · exact Or.inr (Or.inl rfl)
          · exact Or.inr (Or.inr rfl)
        · cases h
theorem D_as {A : Nat → Prop} {ct : Nat → ClassId} {a : XA} {ρ : Option Nat} {s : XS} (h : va_D A (WX ct a ρ s).1) : va_D (fun q => q ∈ xAs a) (WX ct a ρ s).1 := D_iff.mpr ⟨(D_iff.mp h).1, wx_as⟩
theorem as_r {a : XA} {j : Nat} {o : Option Nat} : ∀ x ∈ xAs (axr a j o), x ∈ xAs a ∨ o = some x := by
  intro x hx
  rcases List.mem_append.mp hx with h | h
  · exact Or.inl (List.mem_append_left _ h)
  · rcases List.mem_append.mp h with h | h
    · obtain ⟨i, hi, h⟩ := List.mem_filterMap.mp h
      by_cases c : i = j
      · subst c
        exact Or.inr ((va_up_self _ _ _).symm.trans h)
      · exact Or.inl (List.mem_append_right _ (List.mem_append_left _ (List.mem_filterMap.mpr ⟨i, hi, (va_up_ne _ _ c).symm.trans h⟩)))
    · exact Or.inl (List.mem_append_right _ (List.mem_append_right _ h))
theorem as_g {a : XA} {j : Nat} {o : Option Nat} : ∀ x ∈ xAs (axg a j o), x ∈ xAs a ∨ o = some x := by
  intro x hx
  rcases List.mem_append.mp hx with h | h
  · exact Or.inl (List.mem_append_left _ h)
  · rcases List.mem_append.mp h with h | h
    · exact Or.inl (List.mem_append_right _ (List.mem_append_left _ h))
    · rcases List.mem_append.mp h with h | h
      · obtain ⟨i, hi, h⟩ := List.mem_filterMap.mp h
        by_cases c : i = j
        · subst c
          exact Or.inr ((va_up_self _ _ _).symm.trans h)
        · exact Or.inl (List.mem_append_right _ (List.mem_append_right _ (List.mem_append_left _ (List.mem_filterMap.mpr ⟨i, hi, (va_up_ne _ _ c).symm.trans h⟩))))
      · exact Or.inl (List.mem_append_right _ (List.mem_append_right _ (List.mem_append_right _ h)))
theorem as_k {a : XA} {j : Nat} {o : Option (Nat × Nat × Nat)} : ∀ x ∈ xAs (axk a j o), x ∈ xAs a ∨ ∃ q, o = some q ∧ x ∈ [q.1, q.2.1, q.2.2] := by
  intro x hx
  rcases List.mem_append.mp hx with h | h
  · exact Or.inl (List.mem_append_left _ h)
  · rcases List.mem_append.mp h with h | h
    · exact Or.inl (List.mem_append_right _ (List.mem_append_left _ h))
    · rcases List.mem_append.mp h with h | h
      · exact Or.inl (List.mem_append_right _ (List.mem_append_right _ (List.mem_append_left _ h)))
      · obtain ⟨i, hi, h⟩ := List.mem_flatMap.mp h
        by_cases c : i = j
        · subst c
          cases o with
          | none =>
            rw [show ak (axk a i none) i = none from va_up_self _ _ _] at h
            cases h
          | some q =>
            rw [show ak (axk a i (some q)) i = some q from va_up_self _ _ _] at h
            exact Or.inr ⟨q, rfl, h⟩
        · rw [show ak (axk a j o) i = ak a i from va_up_ne _ _ c] at h
          exact Or.inl (List.mem_append_right _ (List.mem_append_right _ (List.mem_append_right _ (List.mem_flatMap.mpr ⟨i, hi, h⟩))))
theorem xok_rr {a : XA} {s : XS} (h : XOk a s) (j : Nat) (o : Option Nat) (v : Option (Nat × (Nat → Int32))) (e : o.isSome = v.isSome) : XOk (axr a j o) (sxr s j v) := by
  refine ⟨fun i hi => ?_, h.2⟩
  by_cases c : i = j
  · subst c
    rw [show ar (axr a i o) i = o from va_up_self _ _ _, show xr (sxr s i v) i = v from va_up_self _ _ _]
    exact e
  · rw [show ar (axr a j o) i = ar a i from va_up_ne _ _ c, show xr (sxr s j v) i = xr s i from va_up_ne _ _ c]
    exact h.1 i hi
theorem xok_gg {a : XA} {s : XS} (h : XOk a s) (j : Nat) (o : Option Nat) (v : Option (Nat × Int32)) (e : o.isSome = v.isSome) (hk : ∀ w, v = some w → w.1 < 6) : XOk (axg a j o) (sxg s j v) := by
  refine ⟨h.1, fun i hi => ?_, h.2.2.1, fun i w hi hw => ?_⟩
  · by_cases c : i = j
    · subst c
      rw [show ag (axg a i o) i = o from va_up_self _ _ _, show xg (sxg s i v) i = v from va_up_self _ _ _]
      exact e
    · rw [show ag (axg a j o) i = ag a i from va_up_ne _ _ c, show xg (sxg s j v) i = xg s i from va_up_ne _ _ c]
      exact h.2.1 i hi
  · by_cases c : i = j
    · subst c
      rw [show xg (sxg s i v) i = v from va_up_self _ _ _] at hw
      exact hk w hw
    · rw [show xg (sxg s j v) i = xg s i from va_up_ne _ _ c] at hw
      exact h.2.2.2 i w hi hw
theorem xok_kk {a : XA} {s : XS} (h : XOk a s) (j : Nat) (o : Option (Nat × Nat × Nat)) (v : Option (Int32 × (Nat → Int32) × (Nat → Int32))) (e : o.isSome = v.isSome) : XOk (axk a j o) (sxk s j v) := by
  refine ⟨h.1, h.2.1, fun i hi => ?_, h.2.2.2⟩
  by_cases c : i = j
  · subst c
    rw [show ak (axk a i o) i = o from va_up_self _ _ _, show xk (sxk s i v) i = v from va_up_self _ _ _]
    exact e
  · rw [show ak (axk a j o) i = ak a i from va_up_ne _ _ c, show xk (sxk s j v) i = xk s i from va_up_ne _ _ c]
    exact h.2.2.1 i hi
