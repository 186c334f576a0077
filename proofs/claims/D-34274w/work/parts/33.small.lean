set_option maxRecDepth 100000
/-! small classes: constructors, accessors, steps -/
theorem c_J22_init (l : Launch) (E : GE) (h : HV) {a : Nat} : Cg l E yJ22_init cJ22_init 1 none 1 0 0 [.ref a] h (fun v h' => v = none ∧ h = h') := by
  refine Cg.of (by first | exact plainFor_of_name (by decide) | decide +kernel) [some (.ref a)] (Nat.le_of_ble_eq_true rfl) rfl ?_
  intro p e s m args below meth c O
  refine g_aload_n O dJ22_init_0 rfl (by first | rfl | exact rf_ref _) ?_
  refine g_objInit O rfl q731 q87 q88 dJ22_init_1 (by decide) (by first | exact Nat.le_of_ble_eq_true rfl | omega) ?_
  exact g_vret O dJ22_init_4 (by first | exact Nat.le_of_ble_eq_true rfl | omega) (by first | exact Nat.le_of_ble_eq_true rfl | omega) ⟨rfl, rfl⟩
theorem c_X7_init (l : Launch) (E : GE) (h : HV) {a lab w : Nat} {x : Int32} {u1 u2 : Value} (hm : lab ≠ 0) (ha : h a = some (lab, .inr (12, [u1, u2]))) : Cg l E yX7_init cX7_init 3 none 2 0 0 [.ref a, .ref w, .int x] h (fun v h' => v = none ∧ hup h a (lab, .inr (12, [.ref w, .int x])) = h') := by
  refine Cg.of (by first | exact plainFor_of_name (by decide) | decide +kernel) [some (.ref a), some (.ref w), some (.int x)] (Nat.le_of_ble_eq_true rfl) rfl ?_
  intro p e s m args below meth c O
  refine g_aload_n O dX7_init_0 rfl (by first | rfl | exact rf_ref _) ?_
  refine g_callI O (n := 0) (c_J22_init l E h) rfl dX7_init_1 q728 q729 q66 q730 rfl (by decide +kernel) rfl rfl (by first | decide | omega) (by decide) (by first | exact Nat.le_of_ble_eq_true rfl | omega) (by first | exact Nat.le_of_ble_eq_true rfl | omega) (by first | exact Nat.le_of_ble_eq_true rfl | omega) (fun v h1 hp => ?_)
  obtain ⟨rfl, rfl⟩ := hp
  refine g_aload_n O dX7_init_4 rfl (by first | rfl | exact rf_ref _) ?_
  refine g_aload_n O dX7_init_5 rfl (by first | rfl | exact rf_ref _) ?_
  refine g_putF O 12 0 rfl ha hm dX7_init_6 q732 rfl (by decide) rfl rfl rfl rfl (by first | exact Nat.le_of_ble_eq_true rfl | omega) ?_
  refine g_aload_n O dX7_init_9 rfl (by first | rfl | exact rf_ref _) ?_
  refine g_iload_n O dX7_init_10 rfl ?_
  refine g_putF O 12 1 rfl hup_self hm dX7_init_11 q733 rfl (by decide) rfl rfl rfl rfl (by first | exact Nat.le_of_ble_eq_true rfl | omega) ?_
  exact g_vret O dX7_init_14 (by first | exact Nat.le_of_ble_eq_true rfl | omega) (by first | exact Nat.le_of_ble_eq_true rfl | omega) ⟨rfl, by rw [hup_hup]; rfl⟩
theorem c_X7_word (l : Launch) (E : GE) (h : HV) {a lab w : Nat} {x : Int32} (ha : h a = some (lab, .inr (12, [.ref w, .int x]))) : Cg l E yX7_word cX7_word 1 (some (.object "java/lang/String")) 0 0 0 [.ref a] h (fun v h' => v = some (.ref w) ∧ h = h') := by
  refine Cg.of (by first | exact plainFor_of_name (by decide) | decide +kernel) [some (.ref a)] (Nat.le_of_ble_eq_true rfl) rfl ?_
  intro p e s m args below meth c O
  refine g_aload_n O dX7_word_0 rfl (by first | rfl | exact rf_ref _) ?_
  refine g_get O 12 0 rfl ha dX7_word_1 q732 rfl (by decide) rfl rfl ?_
  exact g_aret O dX7_word_4 (by first | exact Or.inl ⟨_, rfl⟩ | exact Or.inr ⟨_, rfl⟩) (by first | exact Or.inl rfl | exact Or.inr ⟨_, rfl⟩) (by first | exact Nat.le_of_ble_eq_true rfl | omega) (by first | exact Nat.le_of_ble_eq_true rfl | omega) ⟨rfl, rfl⟩
theorem c_X7_tag (l : Launch) (E : GE) (h : HV) {a lab w : Nat} {x : Int32} (ha : h a = some (lab, .inr (12, [.ref w, .int x]))) : Cg l E yX7_tag cX7_tag 1 (some .int) 0 0 0 [.ref a] h (fun v h' => v = some (.int x) ∧ h = h') := by
  refine Cg.of (by first | exact plainFor_of_name (by decide) | decide +kernel) [some (.ref a)] (Nat.le_of_ble_eq_true rfl) rfl ?_
  intro p e s m args below meth c O
  refine g_aload_n O dX7_tag_0 rfl (by first | rfl | exact rf_ref _) ?_
  refine g_get O 12 1 rfl ha dX7_tag_1 q733 rfl (by decide) rfl rfl ?_
  exact g_iret O dX7_tag_4 (by first | exact Nat.le_of_ble_eq_true rfl | omega) (by first | exact Nat.le_of_ble_eq_true rfl | omega) ⟨rfl, rfl⟩
theorem c_X8_init (l : Launch) (E : GE) (h : HV) {a lab w : Nat} {u1 u2 : Value} (hm : lab ≠ 0) (ha : h a = some (lab, .inr (13, [u1, u2]))) : Cg l E yX8_init cX8_init 2 none 1 0 0 [.ref a, .ref w] h (fun v h' => v = none ∧ hup h a (lab, .inr (13, [.ref w, u2])) = h') := by
  refine Cg.of (by first | exact plainFor_of_name (by decide) | decide +kernel) [some (.ref a), some (.ref w)] (Nat.le_of_ble_eq_true rfl) rfl ?_
  intro p e s m args below meth c O
  refine g_aload_n O dX8_init_0 rfl (by first | rfl | exact rf_ref _) ?_
  refine g_objInit O rfl q809 q87 q88 dX8_init_1 (by decide) (by first | exact Nat.le_of_ble_eq_true rfl | omega) ?_
  refine g_aload_n O dX8_init_4 rfl (by first | rfl | exact rf_ref _) ?_
  refine g_aload_n O dX8_init_5 rfl (by first | rfl | exact rf_ref _) ?_
  refine g_putF O 13 0 rfl ha hm dX8_init_6 q810 rfl (by decide) rfl rfl rfl rfl (by first | exact Nat.le_of_ble_eq_true rfl | omega) ?_
  exact g_vret O dX8_init_9 (by first | exact Nat.le_of_ble_eq_true rfl | omega) (by first | exact Nat.le_of_ble_eq_true rfl | omega) ⟨rfl, rfl⟩
theorem c_X11_init (l : Launch) (E : GE) (h : HV) {a lab w : Nat} {x : Int64} {u1 u2 u3 : Value} (hm : lab ≠ 0) (ha : h a = some (lab, .inr (9, [u1, u2, u3]))) : Cg l E yX11_init cX11_init 4 none 1 0 0 [.ref a, .ref w, .long x] h (fun v h' => v = none ∧ hup h a (lab, .inr (9, [.ref w, .long x, u3])) = h') := by
  refine Cg.of (by first | exact plainFor_of_name (by decide) | decide +kernel) [some (.ref a), some (.ref w), some (.long x), none] (Nat.le_of_ble_eq_true rfl) rfl ?_
  intro p e s m args below meth c O
  refine g_aload_n O dX11_init_0 rfl (by first | rfl | exact rf_ref _) ?_
  refine g_objInit O rfl q1361 q87 q88 dX11_init_1 (by decide) (by first | exact Nat.le_of_ble_eq_true rfl | omega) ?_
  refine g_aload_n O dX11_init_4 rfl (by first | rfl | exact rf_ref _) ?_
  refine g_aload_n O dX11_init_5 rfl (by first | rfl | exact rf_ref _) ?_
  refine g_putF O 9 0 rfl ha hm dX11_init_6 q1362 rfl (by decide) rfl rfl rfl rfl (by first | exact Nat.le_of_ble_eq_true rfl | omega) ?_
  refine g_aload_n O dX11_init_9 rfl (by first | rfl | exact rf_ref _) ?_
  refine g_lload_n O dX11_init_10 rfl ?_
  refine g_putF O 9 1 rfl hup_self hm dX11_init_11 q1365 rfl (by decide) rfl rfl rfl rfl (by first | exact Nat.le_of_ble_eq_true rfl | omega) ?_
  exact g_vret O dX11_init_14 (by first | exact Nat.le_of_ble_eq_true rfl | omega) (by first | exact Nat.le_of_ble_eq_true rfl | omega) ⟨rfl, by rw [hup_hup]; rfl⟩
theorem c_X10_init (l : Launch) (E : GE) (h : HV) {a : Nat} : Cg l E yX10_init cX10_init 1 none 1 0 0 [.ref a] h (fun v h' => v = none ∧ h = h') := by
  refine Cg.of (by first | exact plainFor_of_name (by decide) | decide +kernel) [some (.ref a)] (Nat.le_of_ble_eq_true rfl) rfl ?_
  intro p e s m args below meth c O
  refine g_aload_n O dX10_init_0 rfl (by first | rfl | exact rf_ref _) ?_
  refine g_objInit O rfl q1325 q87 q88 dX10_init_1 (by decide) (by first | exact Nat.le_of_ble_eq_true rfl | omega) ?_
  exact g_vret O dX10_init_4 (by first | exact Nat.le_of_ble_eq_true rfl | omega) (by first | exact Nat.le_of_ble_eq_true rfl | omega) ⟨rfl, rfl⟩
theorem lcmp_cases {a b : Nat} (ha : a < 2 ^ 63) (hb : b < 2 ^ 63) : (lg_cmp (lN a) (lN b) = -1 ∧ a < b) ∨ (lg_cmp (lN a) (lN b) = 0 ∧ a = b) ∨ (lg_cmp (lN a) (lN b) = 1 ∧ b < a) := by
  unfold lg_cmp
  rcases Nat.lt_trichotomy a b with z | z | z
  · refine Or.inl ⟨?_, z⟩
    rw [if_neg (fun y => by have := (pk_lLT hb ha).mp y; omega), if_neg (fun y => by have := (pk_lEQ ha hb).mp y; omega)]
  · refine Or.inr (Or.inl ⟨?_, z⟩)
    subst z
    rw [if_neg (fun y => by have := (pk_lLT ha ha).mp y; omega), if_pos rfl]
  · exact Or.inr (Or.inr ⟨if_pos ((pk_lLT hb ha).mpr z), z⟩)
theorem c_J24_compare (l : Launch) (E : GE) (h : HV) (a b : Nat) (ha : a < 2 ^ 63) (hb : b < 2 ^ 63) : Cg l E yJ24_compare cJ24_compare 4 (some .int) 0 0 0 [.long (lN a), .long (lN b)] h (fun v h' => v = some (.int (if a < b then (-1) else if a = b then nI 0 else nI 1)) ∧ h = h') := by
  refine Cg.of (by first | exact plainFor_of_name (by decide) | decide +kernel) [some (.long (lN a)), none, some (.long (lN b)), none] (Nat.le_of_ble_eq_true rfl) rfl ?_
  intro p e s m args below meth c O
  refine g_lload_n O dJ24_compare_0 rfl ?_
  refine g_lload_n O dJ24_compare_1 rfl ?_
  refine g_lcmp O dJ24_compare_2 ?_
  rcases lcmp_cases ha hb with ⟨e1, e2⟩ | ⟨e1, e2⟩ | ⟨e1, e2⟩
  · rw [e1]
    refine g_if_ge O 10 dJ24_compare_3 (by decide) (fun hc => ?_) (fun hc => ?_)
    · exact absurd hc (by decide)
    · refine g_iconst O dJ24_compare_6 (-1) rfl ?_
      refine g_goto O 21 dJ24_compare_7 (by decide) ?_
      exact g_iret O dJ24_compare_21 (by first | exact Nat.le_of_ble_eq_true rfl | omega) (by first | exact Nat.le_of_ble_eq_true rfl | omega) ⟨by rw [if_pos e2], rfl⟩
  · rw [e1]
    refine g_if_ge O 10 dJ24_compare_3 (by decide) (fun hc => ?_) (fun hc => ?_)
    · refine g_lload_n O dJ24_compare_10 rfl ?_
      refine g_lload_n O dJ24_compare_11 rfl ?_
      refine g_lcmp O dJ24_compare_12 ?_
      rw [e1]
      refine g_if_ne O 20 dJ24_compare_13 (by decide) (fun hc2 => ?_) (fun hc2 => ?_)
      · exact absurd rfl hc2
      · refine g_iconst O dJ24_compare_16 (nI 0) rfl ?_
        refine g_goto O 21 dJ24_compare_17 (by decide) ?_
        exact g_iret O dJ24_compare_21 (by first | exact Nat.le_of_ble_eq_true rfl | omega) (by first | exact Nat.le_of_ble_eq_true rfl | omega) ⟨by rw [if_neg (by omega), if_pos e2], rfl⟩
    · exact absurd (by decide) hc
  · rw [e1]
    refine g_if_ge O 10 dJ24_compare_3 (by decide) (fun hc => ?_) (fun hc => ?_)
    · refine g_lload_n O dJ24_compare_10 rfl ?_
      refine g_lload_n O dJ24_compare_11 rfl ?_
      refine g_lcmp O dJ24_compare_12 ?_
      rw [e1]
      refine g_if_ne O 20 dJ24_compare_13 (by decide) (fun hc2 => ?_) (fun hc2 => ?_)
      · refine g_iconst O dJ24_compare_20 (nI 1) rfl ?_
        exact g_iret O dJ24_compare_21 (by first | exact Nat.le_of_ble_eq_true rfl | omega) (by first | exact Nat.le_of_ble_eq_true rfl | omega) ⟨by rw [if_neg (by omega), if_neg (by omega)], rfl⟩
      · exact absurd hc2 (by decide)
    · exact absurd (by decide) hc
theorem c_J15_max_2 (l : Launch) (E : GE) (h : HV) (a b : Nat) (ha : a < 2 ^ 63) (hb : b < 2 ^ 63) : Cg l E yJ15_max_2 cJ15_max_2 4 (some .long) 0 0 0 [.long (lN a), .long (lN b)] h (fun v h' => v = some (.long (lN (if a < b then b else a))) ∧ h = h') := by
  refine Cg.of (by first | exact plainFor_of_name (by decide) | decide +kernel) [some (.long (lN a)), none, some (.long (lN b)), none] (Nat.le_of_ble_eq_true rfl) rfl ?_
  intro p e s m args below meth c O
  refine g_lload_n O dJ15_max_2_0 rfl ?_
  refine g_lload_n O dJ15_max_2_1 rfl ?_
  refine g_lcmp O dJ15_max_2_2 ?_
  have e : (lg_cmp (lN a) (lN b) < 0 ∧ a < b) ∨ (¬ lg_cmp (lN a) (lN b) < 0 ∧ ¬ a < b) := by
    rcases lcmp_cases ha hb with ⟨e1, e2⟩ | ⟨e1, e2⟩ | ⟨e1, e2⟩
    · rw [e1]; exact Or.inl ⟨by decide, e2⟩
    · rw [e1]; exact Or.inr ⟨by decide, by omega⟩
    · rw [e1]; exact Or.inr ⟨by decide, by omega⟩
  rcases e with ⟨e1, e2⟩ | ⟨e1, e2⟩
  · refine g_if_lt O 10 dJ15_max_2_3 (by decide) (fun hc => ?_) (fun hc => ?_)
    · refine g_lload_n O dJ15_max_2_10 rfl ?_
      exact g_lret O dJ15_max_2_11 (by first | exact Nat.le_of_ble_eq_true rfl | omega) (by first | exact Nat.le_of_ble_eq_true rfl | omega) ⟨by rw [if_pos e2], rfl⟩
    · exact absurd e1 hc
  · refine g_if_lt O 10 dJ15_max_2_3 (by decide) (fun hc => ?_) (fun hc => ?_)
    · exact absurd hc e1
    · refine g_lload_n O dJ15_max_2_6 rfl ?_
      refine g_goto O 11 dJ15_max_2_7 (by decide) ?_
      exact g_lret O dJ15_max_2_11 (by first | exact Nat.le_of_ble_eq_true rfl | omega) (by first | exact Nat.le_of_ble_eq_true rfl | omega) ⟨by rw [if_neg e2], rfl⟩
/-- an int[n][] with the rows' counts f, all of label ls -/
def MX (E : GE) (h : HV) (ls a n k : Nat) (f : Nat → Nat → Nat) : Prop := ∃ g : Nat → Option Nat, h a = some (ls, .inl (aII E, n, .inr (.inr (.inr (.inr g))))) ∧ (∀ i, i < n → ∃ r row, g i = some r ∧ h r = some (ls, cInts E k row) ∧ ∀ j, j < k → row j = nI (f i j)) ∧ ∀ i j r, i < n → j < n → g i = some r → g j = some r → i = j
theorem MX.fr {E : GE} {h h' : HV} {ls a n k : Nat} {f : Nat → Nat → Nat} {S : List Nat} (F : Fr S h h') (h1 : ls ∉ S) (M : MX E h ls a n k f) : MX E h' ls a n k f := by
  obtain ⟨g, m1, m2, m3⟩ := M
  exact ⟨g, F _ _ m1 h1, fun i hi => (by obtain ⟨r, row, q1, q2, q3⟩ := m2 i hi; exact ⟨r, row, q1, F _ _ q2 h1, q3⟩), m3⟩
/-- an int[n] with f -/
def VX (E : GE) (h : HV) (ls a n : Nat) (f : Nat → Nat) : Prop := ∃ row, h a = some (ls, cInts E n row) ∧ ∀ j, j < n → row j = nI (f j)
theorem VX.fr {E : GE} {h h' : HV} {ls a n : Nat} {f : Nat → Nat} {S : List Nat} (F : Fr S h h') (h1 : ls ∉ S) (M : VX E h ls a n f) : VX E h' ls a n f := by
  obtain ⟨row, m1, m2⟩ := M
  exact ⟨row, F _ _ m1 h1, m2⟩
/-- a place or NONE, as an int -/
abbrev nOf : Option Nat → Int32
  | none => -1
  | some k => nI k
/-- what a step weighs -/
def sOf (st : Nat → Nat → Nat) (fi : Nat → Nat) (from' : Option Nat) (to : Nat) : Nat := match from' with
  | none => if fi to + 1 < 7 then fi to + 1 else 7
  | some i => if st i to + 1 < 7 then st i to + 1 else 7
theorem nI_ne_neg {k : Nat} (h : k < 1000) : nI k ≠ -1 := fun z => by
  have h1 : (nI k).toInt = (-1 : Int32).toInt := by rw [z]
  rw [nI_toInt (by omega)] at h1
  have h2 : (-1 : Int32).toInt = -1 := by decide
  omega
theorem c_X1_stepOf (l : Launch) (E : GE) (h : HV) {lT T ls lf ast afi to : Nat} {st : Nat → Nat → Nat} {fi : Nat → Nat} (from' : Option Nat) {x0 x1 x4 x5 x6 x7 x8 : Value} (hT : h T = some (lT, .inr (0, [x0, x1, .ref ast, .ref afi, x4, x5, x6, x7, x8]))) (hS : MX E h ls ast 5 5 st) (hF : VX E h lf afi 5 fi) (hfrom : ∀ k, from' = some k → k < 5) (ht : to < 5) (hbs : ∀ i j, st i j ≤ 1000000) (hbf : ∀ j, fi j ≤ 1000000) : Cg l E yX1_stepOf cX1_stepOf 3 (some .int) 1 0 0 [.ref T, .int (nOf from'), .int (nI to)] h (fun v h' => v = some (.int (nI (sOf st fi from' to))) ∧ h = h') := by
  have := hbf to
  obtain ⟨row, v1, v2⟩ := hF
  obtain ⟨g, m1, m2, m3⟩ := hS
  refine Cg.of (by first | exact plainFor_of_name (by decide) | decide +kernel) [some (.ref T), some (.int (nOf from')), some (.int (nI to))] (Nat.le_of_ble_eq_true rfl) rfl ?_
  intro p e s m args below meth c O
  refine g_bipush O dX1_stepOf_0 (nI 7) rfl ?_
  refine g_iload_n O dX1_stepOf_2 rfl ?_
  refine g_iconst O dX1_stepOf_3 (-1) rfl ?_
  cases from' with
  | none =>
    refine g_icmp_ne O 16 dX1_stepOf_4 (by decide) (fun hc => ?_) (fun hc => ?_)
    · exact absurd rfl hc
    · refine g_aload_n O dX1_stepOf_7 rfl (by first | rfl | exact rf_ref _) ?_
      refine g_get O 0 3 rfl hT dX1_stepOf_8 q181 rfl (by decide) rfl rfl ?_
      refine g_iload_n O dX1_stepOf_11 rfl ?_
      refine g_iald O to rfl ht (by decide) v1 dX1_stepOf_12 ?_
      rw [v2 to ht]
      refine g_goto O 24 dX1_stepOf_13 (by decide) ?_
      refine g_iconst O dX1_stepOf_24 (nI 1) rfl ?_
      refine g_iadd O dX1_stepOf_25 ?_
      rw [nI_add]
      refine g_callS O (n := 2) (c_J15_min l E h 7 (fi to + 1) (by decide) (by omega)) rfl dX1_stepOf_26 q1265 q483 q57 q484 (by decide +kernel) rfl rfl (by first | decide | omega) (by decide) (by first | exact Nat.le_of_ble_eq_true rfl | omega) (by first | exact Nat.le_of_ble_eq_true rfl | omega) (by first | exact Nat.le_of_ble_eq_true rfl | omega) (fun v h1 hp => ?_)
      obtain ⟨rfl, rfl⟩ := hp
      exact g_iret O dX1_stepOf_29 (by first | exact Nat.le_of_ble_eq_true rfl | omega) (by first | exact Nat.le_of_ble_eq_true rfl | omega) ⟨rfl, rfl⟩
  | some i =>
    have hi := hfrom i rfl
    have := hbs i to
    obtain ⟨r, row2, q1, q2, q3⟩ := m2 i hi
    refine g_icmp_ne O 16 dX1_stepOf_4 (by decide) (fun hc => ?_) (fun hc => ?_)
    · refine g_aload_n O dX1_stepOf_16 rfl (by first | rfl | exact rf_ref _) ?_
      refine g_get O 0 2 rfl hT dX1_stepOf_17 q180 rfl (by decide) rfl rfl ?_
      refine g_iload_n O dX1_stepOf_20 rfl ?_
      refine g_aaldA O 5 i rfl rfl hi (by decide) m1 dX1_stepOf_21 ?_
      rw [q1]
      refine g_iload_n O dX1_stepOf_22 rfl ?_
      refine g_iald O to rfl ht (by decide) q2 dX1_stepOf_23 ?_
      rw [q3 to ht]
      refine g_iconst O dX1_stepOf_24 (nI 1) rfl ?_
      refine g_iadd O dX1_stepOf_25 ?_
      rw [nI_add]
      refine g_callS O (n := 2) (c_J15_min l E h 7 (st i to + 1) (by decide) (by omega)) rfl dX1_stepOf_26 q1265 q483 q57 q484 (by decide +kernel) rfl rfl (by first | decide | omega) (by decide) (by first | exact Nat.le_of_ble_eq_true rfl | omega) (by first | exact Nat.le_of_ble_eq_true rfl | omega) (by first | exact Nat.le_of_ble_eq_true rfl | omega) (fun v h1 hp => ?_)
      obtain ⟨rfl, rfl⟩ := hp
      exact g_iret O dX1_stepOf_29 (by first | exact Nat.le_of_ble_eq_true rfl | omega) (by first | exact Nat.le_of_ble_eq_true rfl | omega) ⟨rfl, rfl⟩
    · exact absurd hc (nI_ne_neg (by omega))
