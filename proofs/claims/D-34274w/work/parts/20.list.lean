set_option maxRecDepth 100000
/-! ArrayList and what it stands on -/
theorem c_J4_size (l : Launch) (E : GE) (h : HV) {a lab cap : Nat} {li : List Nat} (hA : AL E h lab a cap li) : Cg l E yJ4_size cJ4_size 1 (some .int) 0 0 0 [.ref a] h (fun v h' => v = some (.int (nI li.length)) ∧ h = h') := by
  obtain ⟨mo, arr, la, g, ha, -⟩ := hA
  refine Cg.of (by first | exact plainFor_of_name (by decide) | decide +kernel) [some (.ref a)] (Nat.le_of_ble_eq_true rfl) rfl ?_
  intro p e s m args below meth c O
  refine g_aload_n O dJ4_size_0 rfl (by first | rfl | exact rf_ref _) ?_
  refine g_get O 5 2 rfl ha dJ4_size_1 q164 rfl (by decide) rfl rfl ?_
  exact g_iret O dJ4_size_4 (by first | exact Nat.le_of_ble_eq_true rfl | omega) (by first | exact Nat.le_of_ble_eq_true rfl | omega) ⟨rfl, rfl⟩
theorem c_J4_isEmpty (l : Launch) (E : GE) (h : HV) {a lab cap : Nat} {li : List Nat} (hA : AL E h lab a cap li) : Cg l E yJ4_isEmpty cJ4_isEmpty 1 (some .boolean) 0 0 0 [.ref a] h (fun v h' => v = some (.int (if li.length = 0 then nI 1 else nI 0)) ∧ h = h') := by
  have hk := hA.len
  obtain ⟨mo, arr, la, g, ha, -⟩ := hA
  refine Cg.of (by first | exact plainFor_of_name (by decide) | decide +kernel) [some (.ref a)] (Nat.le_of_ble_eq_true rfl) rfl ?_
  intro p e s m args below meth c O
  refine g_aload_n O dJ4_isEmpty_0 rfl (by first | rfl | exact rf_ref _) ?_
  refine g_get O 5 2 rfl ha dJ4_isEmpty_1 q164 rfl (by decide) rfl rfl ?_
  refine g_if_ne O 11 dJ4_isEmpty_4 (by decide) (fun hc => ?_) (fun hc => ?_)
  · refine g_iconst O dJ4_isEmpty_11 (nI 0) rfl ?_
    have hk0 : ¬ li.length = 0 := fun z => hc (by rw [z]; rfl)
    exact g_zret O dJ4_isEmpty_12 rfl (by first | exact Nat.le_of_ble_eq_true rfl | omega) (by first | exact Nat.le_of_ble_eq_true rfl | omega) ⟨by rw [if_neg hk0], rfl⟩
  · refine g_iconst O dJ4_isEmpty_7 (nI 1) rfl ?_
    refine g_goto O 12 dJ4_isEmpty_8 (by decide) ?_
    have hk0 : li.length = 0 := (nI_eq (by omega) (by decide)).mp (by rw [hc]; rfl)
    exact g_zret O dJ4_isEmpty_12 rfl (by first | exact Nat.le_of_ble_eq_true rfl | omega) (by first | exact Nat.le_of_ble_eq_true rfl | omega) ⟨by rw [if_pos hk0], rfl⟩
theorem c_J4_elementData (l : Launch) (E : GE) (h : HV) {a lab arr la n k i : Nat} {mo : Int32} {g : Nat → Option Nat} (ha : h a = some (lab, cList mo arr k)) (hr : h arr = some (la, cObjs E n g)) (hi : i < n) (hn : n < 2 ^ 31) : Cg l E yJ4_elementData cJ4_elementData 2 (some (.object "java/lang/Object")) 0 0 0 [.ref a, .int (nI i)] h (fun v h' => v = some (va_rf (g i)) ∧ h = h') := by
  refine Cg.of (by first | exact plainFor_of_name (by decide) | decide +kernel) [some (.ref a), some (.int (nI i))] (Nat.le_of_ble_eq_true rfl) rfl ?_
  intro p e s m args below meth c O
  refine g_aload_n O dJ4_elementData_0 rfl (by first | rfl | exact rf_ref _) ?_
  refine g_get O 5 1 rfl ha dJ4_elementData_1 q161 rfl (by decide) rfl rfl ?_
  refine g_iload_n O dJ4_elementData_4 rfl ?_
  refine g_aald O i rfl hi hn hr dJ4_elementData_5 ?_
  exact g_aret O dJ4_elementData_6 (by first | exact Or.inl ⟨_, rfl⟩ | exact Or.inr ⟨_, rfl⟩) (g_rfO _) (by first | exact Nat.le_of_ble_eq_true rfl | omega) (by first | exact Nat.le_of_ble_eq_true rfl | omega) ⟨rfl, rfl⟩
theorem c_J4_get (l : Launch) (E : GE) (h : HV) {a lab cap i y : Nat} {li : List Nat} (hA : AL E h lab a cap li) (hi : li[i]? = some y) : Cg l E yJ4_get cJ4_get 2 (some (.object "java/lang/Object")) 2 0 0 [.ref a, .int (nI i)] h (fun v h' => v = some (.ref y) ∧ h = h') := by
  have hlt : i < li.length := (List.getElem?_eq_some_iff.mp hi).1
  obtain ⟨mo, arr, la, g, ha, hr, -, hk, hn, hg⟩ := hA
  refine Cg.of (by first | exact plainFor_of_name (by decide) | decide +kernel) [some (.ref a), some (.int (nI i))] (Nat.le_of_ble_eq_true rfl) rfl ?_
  intro p e s m args below meth c O
  refine g_iload_n O dJ4_get_0 rfl ?_
  refine g_aload_n O dJ4_get_1 rfl (by first | rfl | exact rf_ref _) ?_
  refine g_get O 5 2 rfl ha dJ4_get_2 q164 rfl (by decide) rfl rfl ?_
  refine g_callS O (n := 2) (c_J26_checkIndex l E h i li.length hlt (by omega)) rfl dJ4_get_5 q241 q242 q73 q243 (by decide +kernel) rfl rfl (by first | decide | omega) (by decide) (by first | exact Nat.le_of_ble_eq_true rfl | omega) (by first | exact Nat.le_of_ble_eq_true rfl | omega) (by first | exact Nat.le_of_ble_eq_true rfl | omega) (fun v h1 hp => ?_)
  obtain ⟨rfl, rfl⟩ := hp
  refine g_pop O dJ4_get_8 rfl ?_
  refine g_aload_n O dJ4_get_9 rfl (by first | rfl | exact rf_ref _) ?_
  refine g_iload_n O dJ4_get_10 rfl ?_
  refine g_callV O (n := 1) (c_J4_elementData l E h ha hr (Nat.lt_of_lt_of_le hlt hk) (by omega)) rfl rfl ha dJ4_get_11 q1194 q1195 q1196 q45 q1197 rfl (by decide +kernel) rfl rfl (by first | decide | omega) (by decide) (by first | exact Nat.le_of_ble_eq_true rfl | omega) (by first | exact Nat.le_of_ble_eq_true rfl | omega) (by first | exact Nat.le_of_ble_eq_true rfl | omega) (fun v h1 hp => ?_)
  obtain ⟨rfl, rfl⟩ := hp
  rw [hg i y hi]
  exact g_aret O dJ4_get_14 (by first | exact Or.inl ⟨_, rfl⟩ | exact Or.inr ⟨_, rfl⟩) (by first | exact Or.inl rfl | exact Or.inr ⟨_, rfl⟩) (by first | exact Nat.le_of_ble_eq_true rfl | omega) (by first | exact Nat.le_of_ble_eq_true rfl | omega) ⟨rfl, rfl⟩
theorem c_J2_init (l : Launch) (E : GE) (h : HV) {a : Nat} : Cg l E yJ2_init cJ2_init 1 none 1 0 0 [.ref a] h (fun v h' => v = none ∧ h = h') := by
  refine Cg.of (by first | exact plainFor_of_name (by decide) | decide +kernel) [some (.ref a)] (Nat.le_of_ble_eq_true rfl) rfl ?_
  intro p e s m args below meth c O
  refine g_aload_n O dJ2_init_0 rfl (by first | rfl | exact rf_ref _) ?_
  refine g_objInit O rfl q158 q87 q88 dJ2_init_1 (by decide) (by first | exact Nat.le_of_ble_eq_true rfl | omega) ?_
  exact g_vret O dJ2_init_4 (by first | exact Nat.le_of_ble_eq_true rfl | omega) (by first | exact Nat.le_of_ble_eq_true rfl | omega) ⟨rfl, rfl⟩
theorem c_J3_init (l : Launch) (E : GE) (h : HV) {a lab : Nat} {x y : Value} {mo : Int32} (ha : h a = some (lab, .inr (5, [.int mo, x, y]))) (hm : lab ≠ 0) : Cg l E yJ3_init cJ3_init 1 none 2 0 0 [.ref a] h (fun v h' => v = none ∧ hup h a (lab, .inr (5, [.int (nI 0), x, y])) = h') := by
  refine Cg.of (by first | exact plainFor_of_name (by decide) | decide +kernel) [some (.ref a)] (Nat.le_of_ble_eq_true rfl) rfl ?_
  intro p e s m args below meth c O
  refine g_aload_n O dJ3_init_0 rfl (by first | rfl | exact rf_ref _) ?_
  refine g_callI O (n := 0) (c_J2_init l E h) rfl dJ3_init_1 q155 q156 q43 q157 rfl (by decide +kernel) rfl rfl (by first | decide | omega) (by decide) (by first | exact Nat.le_of_ble_eq_true rfl | omega) (by first | exact Nat.le_of_ble_eq_true rfl | omega) (by first | exact Nat.le_of_ble_eq_true rfl | omega) (fun v h1 hp => ?_)
  obtain ⟨rfl, rfl⟩ := hp
  refine g_aload_n O dJ3_init_4 rfl (by first | rfl | exact rf_ref _) ?_
  refine g_iconst O dJ3_init_5 (nI 0) rfl ?_
  refine g_put O 5 0 rfl ha hm dJ3_init_6 q165 rfl (by decide) rfl rfl rfl (by first | exact Nat.le_of_ble_eq_true rfl | omega) ?_
  exact g_vret O dJ3_init_9 (by first | exact Nat.le_of_ble_eq_true rfl | omega) (by first | exact Nat.le_of_ble_eq_true rfl | omega) ⟨rfl, rfl⟩
theorem c_J4_init (l : Launch) (E : GE) (h : HV) {a lab : Nat} (hG : GC E h) (ha : h a = some (lab, .inr (5, [.int 0, .null, .int 0]))) (hm : lab ≠ 0) : Cg l E yJ4_init cJ4_init 1 none 3 0 0 [.ref a] h (fun v h' => v = none ∧ hup h a (lab, cList (nI 0) (gc E 2) 0) = h') := by
  refine Cg.of (by first | exact plainFor_of_name (by decide) | decide +kernel) [some (.ref a)] (Nat.le_of_ble_eq_true rfl) rfl ?_
  intro p e s m args below meth c O
  refine g_aload_n O dJ4_init_0 rfl (by first | rfl | exact rf_ref _) ?_
  refine g_callI O (n := 0) (c_J3_init l E h ha hm) rfl dJ4_init_1 q152 q153 q44 q154 rfl (by decide +kernel) rfl rfl (by first | decide | omega) (by decide) (by first | exact Nat.le_of_ble_eq_true rfl | omega) (by first | exact Nat.le_of_ble_eq_true rfl | omega) (by first | exact Nat.le_of_ble_eq_true rfl | omega) (fun v h1 hp => ?_)
  obtain ⟨rfl, rfl⟩ := hp
  refine g_aload_n O dJ4_init_4 rfl (by first | rfl | exact rf_ref _) ?_
  refine g_empty O q159 dJ4_init_5 ?_
  refine g_put O 5 1 rfl hup_self hm dJ4_init_8 q161 rfl (by decide) rfl rfl rfl (by first | exact Nat.le_of_ble_eq_true rfl | omega) ?_
  exact g_vret O dJ4_init_11 (by first | exact Nat.le_of_ble_eq_true rfl | omega) (by first | exact Nat.le_of_ble_eq_true rfl | omega) ⟨rfl, by funext b; unfold hup; by_cases hb : b = a <;> simp [hb, nI_0]⟩
/-- a new ArrayList's cell, behind its constructor -/
theorem AL.new {E : GE} {h : HV} {a lab : Nat} (hG : GC E h) (ha : h a = some (lab, cList (nI 0) (gc E 2) 0)) : AL E h lab a 0 [] := by
  refine ⟨nI 0, gc E 2, 0, _, ha, hG.2.2, Or.inr ⟨rfl, rfl, rfl⟩, Nat.le_refl 0, by decide, fun j y hj => by simp at hj⟩
theorem c_J16_copyOf_3 (l : Launch) (E : GE) (h : HV) {a lab n : Nat} {g : Nat → Option Nat} (N : Nat) (ha : h a = some (lab, cObjs E n g)) (hm : lab ≠ 0) (hn : n ≤ N) (hN : N ≤ 200000) (hel : ∀ i, i < n → ∀ y, g i = some y → gAny h y) : Cg l E yJ16_copyOf_3 cJ16_copyOf_3 4 (some (.array (.object "java/lang/Object"))) 1 1 N [.ref a, .int (nI N), .ref (gc E 3)] h (fun v h' => ∃ b, h b = none ∧ v = some (.ref b) ∧ hup h b (lab, cObjs E N (fun j => if j < n then g j else none)) = h') := by
  refine Cg.of (by first | exact plainFor_of_name (by decide) | decide +kernel) [some (.ref a), some (.int (nI N)), some (.ref (gc E 3)), none] (Nat.le_of_ble_eq_true rfl) rfl ?_
  intro p e s m args below meth c O
  refine g_aload_n O dJ16_copyOf_3_0 rfl (by first | rfl | exact rf_ref _) ?_
  refine g_ldcM O dJ16_copyOf_3_1 q793 ?_
  refine g_acmp_ne O 13 dJ16_copyOf_3_3 (by decide) rfl rfl (fun hc => ?_) (fun hc => ?_)
  · exact absurd rfl hc
  · refine g_iload_n O dJ16_copyOf_3_6 rfl ?_
    refine g_anewa O lab N rfl (by omega) q795 dJ16_copyOf_3_7 (Nat.le_refl 1) (by omega) (fun b hb => ?_)
    refine g_goto O 24 dJ16_copyOf_3_10 (by decide) ?_
    refine g_astore_n O rfl dJ16_copyOf_3_24 (by first | rfl | exact rf_ref _) (by first | rfl | exact rf_lst ⟨rfl, rfl⟩) ?_
    refine g_aload_n O dJ16_copyOf_3_25 rfl (by first | rfl | exact rf_ref _) ?_
    refine g_iconst O dJ16_copyOf_3_26 (nI 0) rfl ?_
    refine g_aload_n O dJ16_copyOf_3_27 rfl (by first | rfl | exact rf_ref _) ?_
    refine g_iconst O dJ16_copyOf_3_28 (nI 0) rfl ?_
    refine g_aload_n O dJ16_copyOf_3_29 rfl (by first | rfl | exact rf_ref _) ?_
    refine g_alen O 4 rfl (((hup_ne (hv_neN ha hb)).trans ha)) dJ16_copyOf_3_30 ?_
    refine g_iload_n O dJ16_copyOf_3_31 rfl ?_
    refine g_callS O (n := 2) (c_J15_min l E _ n N (by omega) (by omega)) rfl dJ16_copyOf_3_32 q482 q483 q57 q484 (by decide +kernel) rfl rfl (by first | decide | omega) (by decide) (by first | exact Nat.le_of_ble_eq_true rfl | omega) (Nat.le_refl _) (by omega) (fun v h1 hp => ?_)
    obtain ⟨rfl, rfl⟩ := hp
    have hmin : (if N < n then N else n) = n := if_neg (by omega)
    rw [hmin]
    have hab : a ≠ b := hv_neN ha hb
    refine g_acopyO O 0 0 n rfl rfl rfl ((hup_ne hab).trans ha) hm hup_self hm (by omega) (by omega) (by omega) (by omega) (fun i hi y hy => ?_) q485 rfl (Nat.le_refl 1) (Nat.le_of_ble_eq_true rfl) dJ16_copyOf_3_35 ?_
    · rw [Nat.zero_add] at hy
      exact (hel i hi y hy).kept (fun c hc => (hup_ne (fun z => by rw [z, hb] at hc; cases hc)).trans hc)
    · refine g_aload_n O dJ16_copyOf_3_38 rfl (by first | rfl | exact rf_ref _) ?_
      refine g_aret O dJ16_copyOf_3_39 (Or.inr ⟨_, rfl⟩) (Or.inr ⟨_, rfl⟩) (Nat.le_refl _) (by omega) ⟨b, hb, rfl, ?_⟩
      funext x
      unfold hup
      by_cases hx : x = b
      · rw [if_pos hx, if_pos hx]
        have ec : va_cpy g (fun _ => none) 0 0 n = (fun j => if j < n then g j else none) := by
          funext j
          by_cases hj : j < n
          · rw [if_pos hj]
            show va_cpy g (fun _ => none) 0 0 n j = g j
            unfold va_cpy
            rw [if_pos ⟨Nat.zero_le _, by omega⟩]
            congr 1
            omega
          · rw [if_neg hj]
            show va_cpy g (fun _ => none) 0 0 n j = none
            unfold va_cpy
            rw [if_neg (fun z => hj (by omega))]
        rw [ec]
      · rw [if_neg hx, if_neg hx, if_neg hx]
theorem c_J16_copyOf_2 (l : Launch) (E : GE) (h : HV) {a lab n : Nat} {g : Nat → Option Nat} (N : Nat) (ha : h a = some (lab, cObjs E n g)) (hm : lab ≠ 0) (hn : n ≤ N) (hN : N ≤ 200000) (hel : ∀ i, i < n → ∀ y, g i = some y → gAny h y) : Cg l E yJ16_copyOf_2 cJ16_copyOf_2 2 (some (.array (.object "java/lang/Object"))) 2 1 N [.ref a, .int (nI N)] h (fun v h' => ∃ b, h b = none ∧ v = some (.ref b) ∧ hup h b (lab, cObjs E N (fun j => if j < n then g j else none)) = h') := by
  refine Cg.of (by first | exact plainFor_of_name (by decide) | decide +kernel) [some (.ref a), some (.int (nI N))] (Nat.le_of_ble_eq_true rfl) rfl ?_
  intro p e s m args below meth c O
  refine g_aload_n O dJ16_copyOf_2_0 rfl (by first | rfl | exact rf_ref _) ?_
  refine g_iload_n O dJ16_copyOf_2_1 rfl ?_
  refine g_aload_n O dJ16_copyOf_2_2 rfl (by first | rfl | exact rf_ref _) ?_
  refine g_getC O ha hm q764 rfl (by decide) (Nat.le_of_ble_eq_true rfl) dJ16_copyOf_2_3 ?_
  refine g_callS O (n := 3) (c_J16_copyOf_3 l E h N ha hm hn hN hel) rfl dJ16_copyOf_2_6 q790 q791 q58 q792 (by decide +kernel) rfl rfl (by first | decide | omega) (by decide) (by first | exact Nat.le_of_ble_eq_true rfl | omega) (Nat.le_refl _) (Nat.le_of_eq (Nat.zero_add _)) (fun v h1 hp => ?_)
  obtain ⟨b, hb, rfl, rfl⟩ := hp
  exact g_aret O dJ16_copyOf_2_9 (by first | exact Or.inl ⟨_, rfl⟩ | exact Or.inr ⟨_, rfl⟩) (by first | exact Or.inl rfl | exact Or.inr ⟨_, rfl⟩) (Nat.le_refl _) (Nat.le_of_eq (Nat.zero_add _)) ⟨b, hb, rfl, rfl⟩
theorem ncap_le {n : Nat} (h : n ≤ 100000) : ncap n ≤ 200000 ∧ n < ncap n := by
  unfold ncap
  split
  · omega
  · split <;> omega
theorem nI_half {n : Nat} (h : n < 2 ^ 31) : nI n >>> (nI 1 &&& 31) = nI (n / 2) := by
  rw [pk_shrN h (nI 1 &&& 31) 1 rfl]
/-- the list is full: its array grows -/
theorem c_J4_grow_2 (l : Launch) (E : GE) (h : HV) {a lab arr la n : Nat} {mo : Int32} {g : Nat → Option Nat} (hG : GC E h) (ha : h a = some (lab, cList mo arr n)) (hm : lab ≠ 0) (hr : h arr = some (la, cObjs E n g)) (hl : (la = lab ∧ 0 < n) ∨ (la = 0 ∧ n = 0 ∧ arr = gc E 2)) (hn : n ≤ 100000) (hel : ∀ i, i < n → ∀ y, g i = some y → gAny h y) :
    Cg l E yJ4_grow_2 cJ4_grow_2 4 (some (.array (.object "java/lang/Object"))) 3 1 (ncap n) [.ref a, .int (nI (n + 1))] h (fun v h' => ∃ b, h b = none ∧ v = some (.ref b) ∧ hup (hup h b (lab, cObjs E (ncap n) (fun j => if j < n then g j else none))) a (lab, cList mo b n) = h') := by
  have hcap := ncap_le hn
  refine Cg.of (by first | exact plainFor_of_name (by decide) | decide +kernel) [some (.ref a), some (.int (nI (n + 1))), none, none] (Nat.le_of_ble_eq_true rfl) rfl ?_
  intro p e s m args below meth c O
  refine g_aload_n O dJ4_grow_2_0 rfl (by first | rfl | exact rf_ref _) ?_
  refine g_get O 5 1 rfl ha dJ4_grow_2_1 q161 rfl (by decide) rfl rfl ?_
  refine g_alen O 4 rfl hr dJ4_grow_2_4 ?_
  refine g_istore_n O rfl dJ4_grow_2_5 rfl ?_
  refine g_iload_n O dJ4_grow_2_6 rfl ?_
  have finish : ∀ (b : Nat) (hb : h b = none), a ≠ b := fun b hb => hv_neN ha hb
  refine g_if_gt O 20 dJ4_grow_2_7 (by decide) (fun hc => ?_) (fun hc => ?_)
  · have hn0 : 0 < n := (nI_ltI (by decide) (by omega)).mp hc
    obtain ⟨rfl, -⟩ : la = lab ∧ 0 < n := by
      rcases hl with z | ⟨-, z, -⟩
      · exact z
      · omega
    refine g_iload_n O dJ4_grow_2_20 rfl ?_
    refine g_iload_n O dJ4_grow_2_21 rfl ?_
    refine g_iload_n O dJ4_grow_2_22 rfl ?_
    refine g_isub O dJ4_grow_2_23 ?_
    refine g_iload_n O dJ4_grow_2_24 rfl ?_
    refine g_iconst O dJ4_grow_2_25 (nI 1) rfl ?_
    refine g_ishr O dJ4_grow_2_26 ?_
    rw [pk_sub (by omega : n ≤ n + 1), show n + 1 - n = 1 by omega, nI_half (by omega)]
    refine g_callS O (n := 3) (c_J14_newLength l E h n 1 (n / 2) hn (Nat.le_refl 1) (by decide) (by omega)) rfl dJ4_grow_2_27 q760 q462 q56 q463 (by decide +kernel) rfl rfl (by first | decide | omega) (by decide) (by first | exact Nat.le_of_ble_eq_true rfl | omega) (by first | exact Nat.le_of_ble_eq_true rfl | omega) (by first | exact Nat.le_of_ble_eq_true rfl | omega) (fun v h1 hp => ?_)
    obtain ⟨rfl, rfl⟩ := hp
    have hnc : n + (if 1 < n / 2 then n / 2 else 1) = ncap n := by unfold ncap; rw [if_neg (c := n = 0) (by omega)]
    rw [hnc]
    refine g_istore_n O rfl dJ4_grow_2_30 rfl ?_
    refine g_aload_n O dJ4_grow_2_31 rfl (by first | rfl | exact rf_ref _) ?_
    refine g_aload_n O dJ4_grow_2_32 rfl (by first | rfl | exact rf_ref _) ?_
    refine g_get O 5 1 rfl ha dJ4_grow_2_33 q161 rfl (by decide) rfl rfl ?_
    refine g_iload_n O dJ4_grow_2_36 rfl ?_
    refine g_callS O (n := 2) (c_J16_copyOf_2 l E h (ncap n) hr hm (by omega) hcap.1 hel) rfl dJ4_grow_2_37 q761 q762 q58 q763 (by decide +kernel) rfl rfl (by first | decide | omega) (by decide) (by first | exact Nat.le_of_ble_eq_true rfl | omega) (Nat.le_refl _) (by omega) (fun v h1 hp => ?_)
    obtain ⟨b, hb, rfl, rfl⟩ := hp
    refine g_dup_x1 O dJ4_grow_2_40 rfl rfl ?_
    refine g_put O 5 1 rfl ((hup_ne (finish b hb)).trans ha) hm dJ4_grow_2_41 q161 rfl (by decide) rfl rfl rfl (by first | exact Nat.le_of_ble_eq_true rfl | omega) ?_
    exact g_aret O dJ4_grow_2_44 (by first | exact Or.inl ⟨_, rfl⟩ | exact Or.inr ⟨_, rfl⟩) (by first | exact Or.inl rfl | exact Or.inr ⟨_, rfl⟩) (Nat.le_refl _) (by omega) ⟨b, hb, rfl, rfl⟩
  · have hn0 : n = 0 := by
      rcases Nat.eq_zero_or_pos n with z | z
      · exact z
      · exact absurd (nI_lt (a := 0) z (by omega)) hc
    subst hn0
    obtain ⟨rfl, -, rfl⟩ : la = 0 ∧ 0 = 0 ∧ arr = gc E 2 := by
      rcases hl with ⟨-, z⟩ | z
      · omega
      · exact z
    refine g_aload_n O dJ4_grow_2_10 rfl (by first | rfl | exact rf_ref _) ?_
    refine g_get O 5 1 rfl ha dJ4_grow_2_11 q161 rfl (by decide) rfl rfl ?_
    refine g_empty O q159 dJ4_grow_2_14 ?_
    refine g_acmp_eq O 45 dJ4_grow_2_17 (by decide) rfl rfl (fun hc2 => ?_) (fun hc2 => ?_)
    · refine g_aload_n O dJ4_grow_2_45 rfl (by first | rfl | exact rf_ref _) ?_
      refine g_bipush O dJ4_grow_2_46 (nI 10) rfl ?_
      refine g_iload_n O dJ4_grow_2_48 rfl ?_
      refine g_callS O (n := 2) (c_J15_max l E h 10 1 (by decide) (by decide)) rfl dJ4_grow_2_49 q796 q465 q57 q466 (by decide +kernel) rfl rfl (by first | decide | omega) (by decide) (by first | exact Nat.le_of_ble_eq_true rfl | omega) (by first | exact Nat.le_of_ble_eq_true rfl | omega) (by first | exact Nat.le_of_ble_eq_true rfl | omega) (fun v h1 hp => ?_)
      obtain ⟨rfl, rfl⟩ := hp
      rw [show (if 10 < 1 then 1 else 10) = 10 from rfl]
      refine g_anewa O lab 10 rfl (by decide) q797 dJ4_grow_2_52 (by first | exact Nat.le_of_ble_eq_true rfl | omega) (by first | exact Nat.le_of_ble_eq_true rfl | omega) (fun b hb => ?_)
      refine g_dup_x1 O dJ4_grow_2_55 rfl rfl ?_
      refine g_put O 5 1 rfl ((hup_ne (finish b hb)).trans ha) hm dJ4_grow_2_56 q161 rfl (by decide) rfl rfl rfl (by first | exact Nat.le_of_ble_eq_true rfl | omega) ?_
      refine g_aret O dJ4_grow_2_59 (Or.inr ⟨_, rfl⟩) (Or.inr ⟨_, rfl⟩) (Nat.le_refl _) (Nat.le_of_ble_eq_true rfl) ⟨b, hb, rfl, ?_⟩
      rfl
    · exact absurd rfl hc2
theorem c_J4_grow (l : Launch) (E : GE) (h : HV) {a lab arr la n : Nat} {mo : Int32} {g : Nat → Option Nat} (hG : GC E h) (ha : h a = some (lab, cList mo arr n)) (hm : lab ≠ 0) (hr : h arr = some (la, cObjs E n g)) (hl : (la = lab ∧ 0 < n) ∨ (la = 0 ∧ n = 0 ∧ arr = gc E 2)) (hn : n ≤ 100000) (hel : ∀ i, i < n → ∀ y, g i = some y → gAny h y) :
    Cg l E yJ4_grow cJ4_grow 1 (some (.array (.object "java/lang/Object"))) 4 1 (ncap n) [.ref a] h (fun v h' => ∃ b, h b = none ∧ v = some (.ref b) ∧ hup (hup h b (lab, cObjs E (ncap n) (fun j => if j < n then g j else none))) a (lab, cList mo b n) = h') := by
  refine Cg.of (by first | exact plainFor_of_name (by decide) | decide +kernel) [some (.ref a)] (Nat.le_of_ble_eq_true rfl) rfl ?_
  intro p e s m args below meth c O
  refine g_aload_n O dJ4_grow_0 rfl (by first | rfl | exact rf_ref _) ?_
  refine g_aload_n O dJ4_grow_1 rfl (by first | rfl | exact rf_ref _) ?_
  refine g_get O 5 2 rfl ha dJ4_grow_2 q164 rfl (by decide) rfl rfl ?_
  refine g_iconst O dJ4_grow_5 (nI 1) rfl ?_
  refine g_iadd O dJ4_grow_6 ?_
  rw [nI_add]
  refine g_callV O (n := 1) (c_J4_grow_2 l E h hG ha hm hr hl hn hel) rfl rfl ha dJ4_grow_7 q756 q758 qs5 q45 q759 rfl (by decide +kernel) rfl rfl (by first | decide | omega) (by decide) (by first | exact Nat.le_of_ble_eq_true rfl | omega) (Nat.le_refl _) (Nat.le_of_eq (Nat.zero_add _)) (fun v h1 hp => ?_)
  obtain ⟨b, hb, rfl, rfl⟩ := hp
  exact g_aret O dJ4_grow_10 (by first | exact Or.inl ⟨_, rfl⟩ | exact Or.inr ⟨_, rfl⟩) (by first | exact Or.inl rfl | exact Or.inr ⟨_, rfl⟩) (Nat.le_refl _) (Nat.le_of_eq (Nat.zero_add _)) ⟨b, hb, rfl, rfl⟩
theorem gAny.upL {h : HV} {x a lab : Nat} {mo : Int32} {b k : Nat} (g : gAny h x) : gAny (hup h a (lab, cList mo b k)) x := by
  by_cases hxa : x = a
  · subst hxa
    exact ⟨lab, 5, 3, _, RJ4, TJ4, hup_self, rfl, q1788⟩
  · exact g.kept (fun c hc => (hup_ne hxa).trans hc)
theorem gAny.upO {E : GE} {h : HV} {x a l1 l2 n n' : Nat} {f f' : Nat → Option Nat} (g : gAny h x) (ha : h a = some (l1, cObjs E n f)) : gAny (hup h a (l2, cObjs E n' f')) x := by
  obtain ⟨lx, cx, Nx, fx, Cx, Tx, h1, h2⟩ := g
  have hxa : x ≠ a := hv_ne h1 ha (by simp)
  exact ⟨lx, cx, Nx, fx, Cx, Tx, (hup_ne hxa).trans h1, h2⟩
theorem gAny.new {h : HV} {x a : Nat} {c : Nat × va_E} (g : gAny h x) (ha : h a = none) : gAny (hup h a c) x := g.kept (fun c hc => (hup_ne (hv_neN hc ha)).trans hc)
/-- add(e, elementData, s): x behind k elements -/
theorem c_J4_add_2 (l : Launch) (E : GE) (h : HV) {a lab arr la n k x : Nat} {mo : Int32} {g : Nat → Option Nat} (mc ms : Nat) (hb : k = n → 1 ≤ mc ∧ ncap n ≤ ms) (hG : GC E h) (ha : h a = some (lab, cList mo arr k)) (hm : lab ≠ 0) (hr : h arr = some (la, cObjs E n g)) (hl : (la = lab ∧ 0 < n) ∨ (la = 0 ∧ n = 0 ∧ arr = gc E 2)) (hk : k ≤ n) (hn : n ≤ 100000) (hel : k = n → ∀ i, i < n → ∀ y, g i = some y → gAny h y) (hx : gAny h x) :
    Cg l E yJ4_add_2 cJ4_add_2 4 none 5 mc ms [.ref a, .ref x, .ref arr, .int (nI k)] h (fun v h' => v = none ∧ ∃ (b n' : Nat) (g' : Nat → Option Nat), n' = (if k = n then ncap n else n) ∧ h' a = some (lab, cList mo b (k + 1)) ∧ h' b = some (lab, cObjs E n' g') ∧ (∀ j, j < k → g' j = g j) ∧ g' k = some x ∧ Fr [lab] h h') := by
  have hcap := ncap_le hn
  obtain ⟨lx, cx, Nx, fx, Cx, Tx, hx1, hx2, hx3⟩ := hx
  refine Cg.of (by first | exact plainFor_of_name (by decide) | decide +kernel) [some (.ref a), some (.ref x), some (.ref arr), some (.int (nI k))] (Nat.le_of_ble_eq_true rfl) rfl ?_
  intro p e s m args below meth c O
  refine g_iload_n O dJ4_add_2_0 rfl ?_
  refine g_aload_n O dJ4_add_2_1 rfl (by first | rfl | exact rf_ref _) ?_
  refine g_alen O 4 rfl hr dJ4_add_2_2 ?_
  refine g_icmp_ne O 11 dJ4_add_2_3 (by decide) (fun hc => ?_) (fun hc => ?_)
  · have hkn : k ≠ n := fun z => hc (by rw [z])
    obtain ⟨rfl, -⟩ : la = lab ∧ 0 < n := by
      rcases hl with z | ⟨-, z, -⟩
      · exact z
      · omega
    have hne : a ≠ arr := hv_ne ha hr (by simp)
    refine g_aload_n O dJ4_add_2_11 rfl (by first | rfl | exact rf_ref _) ?_
    refine g_iload_n O dJ4_add_2_12 rfl ?_
    refine g_aload_n O dJ4_add_2_13 rfl (by first | rfl | exact rf_ref _) ?_
    refine g_aast O k rfl (by omega) (by omega) hr hm hx1 hx2 hx3 dJ4_add_2_14 ?_
    refine g_aload_n O dJ4_add_2_15 rfl (by first | rfl | exact rf_ref _) ?_
    refine g_iload_n O dJ4_add_2_16 rfl ?_
    refine g_iconst O dJ4_add_2_17 (nI 1) rfl ?_
    refine g_iadd O dJ4_add_2_18 ?_
    rw [nI_add]
    refine g_put O 5 2 rfl ((hup_ne hne).trans ha) hm dJ4_add_2_19 q164 rfl (by decide) rfl rfl rfl (by first | exact Nat.le_of_ble_eq_true rfl | omega) ?_
    refine g_vret O dJ4_add_2_22 (Nat.zero_le _) (Nat.zero_le _) ⟨rfl, arr, n, va_up g k (some x), (if_neg hkn).symm, hup_self, (hup_ne hne.symm).trans hup_self, fun j hj => va_up_ne _ _ (by omega), va_up_self _ _ _, ?_⟩
    exact (Fr.rf.up hr (List.mem_singleton.mpr rfl)).up ((hup_ne hne).trans ha) (List.mem_singleton.mpr rfl)
  · have hkn : k = n := (nI_eq (by omega) (by omega)).mp (by first | exact hc | exact Decidable.of_not_not hc)
    subst hkn
    obtain ⟨hb1, hb2⟩ := hb rfl
    refine g_aload_n O dJ4_add_2_6 rfl (by first | rfl | exact rf_ref _) ?_
    refine g_callV O (n := 0) (c_J4_grow l E h hG ha hm hr hl hn (hel rfl)) rfl rfl ha dJ4_add_2_7 q752 q754 qs4 q45 q755 rfl (by decide +kernel) rfl rfl (by first | decide | omega) (by decide) (by first | exact Nat.le_of_ble_eq_true rfl | omega) (by omega) (by omega) (fun v h1 hp => ?_)
    obtain ⟨b, hbn, rfl, rfl⟩ := hp
    have hab : a ≠ b := hv_neN ha hbn
    have hx' : gAny (hup (hup h b (lab, cObjs E (ncap k) (fun j => if j < k then g j else none))) a (lab, cList mo b k)) x := gAny.upL (gAny.new ⟨lx, cx, Nx, fx, Cx, Tx, hx1, hx2, hx3⟩ hbn)
    generalize hg1 : (fun j => if j < k then g j else none) = g1 at hx' ⊢
    obtain ⟨lx, cx, Nx, fx, Cx, Tx, hx1, hx2, hx3⟩ := hx'
    have hb2' : (hup (hup h b (lab, cObjs E (ncap k) g1)) a (lab, cList mo b k)) b = some (lab, cObjs E (ncap k) g1) := (hup_ne hab.symm).trans hup_self
    refine g_astore_n O rfl dJ4_add_2_10 (by first | rfl | exact rf_ref _) (by first | rfl | exact rf_lst ⟨rfl, rfl⟩) ?_
    refine g_aload_n O dJ4_add_2_11 rfl (by first | rfl | exact rf_ref _) ?_
    refine g_iload_n O dJ4_add_2_12 rfl ?_
    refine g_aload_n O dJ4_add_2_13 rfl (by first | rfl | exact rf_ref _) ?_
    refine g_aast O k rfl (by omega) (by omega) hb2' hm hx1 hx2 hx3 dJ4_add_2_14 ?_
    refine g_aload_n O dJ4_add_2_15 rfl (by first | rfl | exact rf_ref _) ?_
    refine g_iload_n O dJ4_add_2_16 rfl ?_
    refine g_iconst O dJ4_add_2_17 (nI 1) rfl ?_
    refine g_iadd O dJ4_add_2_18 ?_
    rw [nI_add]
    refine g_put O 5 2 rfl ((hup_ne hab).trans hup_self) hm dJ4_add_2_19 q164 rfl (by decide) rfl rfl rfl (by first | exact Nat.le_of_ble_eq_true rfl | omega) ?_
    refine g_vret O dJ4_add_2_22 (by omega) (by omega) ⟨rfl, b, ncap k, va_up g1 k (some x), (if_pos rfl).symm, hup_self, (hup_ne hab.symm).trans hup_self, fun j hj => ?_, va_up_self _ _ _, ?_⟩
    · rw [va_up_ne _ _ (by omega), ← hg1]
      exact if_pos hj
    · have f1 : Fr [lab] h (hup h b (lab, cObjs E (ncap k) g1)) := Fr.rf.new hbn
      have f2 := f1.up (c := (lab, cList mo b k)) ((hup_ne hab).trans ha) (List.mem_singleton.mpr rfl)
      have f3 := f2.up (c := (lab, cObjs E (ncap k) (va_up g1 k (some x)))) hb2' (List.mem_singleton.mpr rfl)
      exact f3.up ((hup_ne hab).trans hup_self) (List.mem_singleton.mpr rfl)
/-- add(e) -/
theorem c_J4_add (l : Launch) (E : GE) (h : HV) {a lab cap x : Nat} {li : List Nat} (mc ms : Nat) (hb : li.length = cap → 1 ≤ mc ∧ ncap cap ≤ ms) (hc1 : cap ≤ 60000) (hG : GC E h) (hA : AL E h lab a cap li) (hm : lab ≠ 0) (hel : ∀ y ∈ li, gAny h y) (hx : gAny h x) :
    Cg l E yJ4_add cJ4_add 2 (some .boolean) 6 mc ms [.ref a, .ref x] h (fun v h' => v = some (.int (nI 1)) ∧ AL E h' lab a (if li.length = cap then ncap cap else cap) (li ++ [x]) ∧ Fr [lab] h h') := by
  obtain ⟨mo, arr, la, g, ha, hr, hl, hk, hn, hg⟩ := hA
  have hcap := ncap_le hn
  have hne : a ≠ arr := hv_ne ha hr (by simp)
  refine Cg.of (by first | exact plainFor_of_name (by decide) | decide +kernel) [some (.ref a), some (.ref x)] (Nat.le_of_ble_eq_true rfl) rfl ?_
  intro p e s m args below meth c O
  refine g_aload_n O dJ4_add_0 rfl (by first | rfl | exact rf_ref _) ?_
  refine g_dup O dJ4_add_1 rfl ?_
  refine g_getI O 5 0 rfl ha dJ4_add_2 q168 q167 (by decide) rfl rfl ?_
  refine g_iconst O dJ4_add_5 (nI 1) rfl ?_
  refine g_iadd O dJ4_add_6 ?_
  refine g_putI O 5 0 rfl ha hm dJ4_add_7 q168 q167 (by decide) rfl rfl rfl (by first | exact Nat.le_of_ble_eq_true rfl | omega) ?_
  have ha1 : hup h a (lab, cList (mo + nI 1) arr li.length) a = some (lab, cList (mo + nI 1) arr li.length) := hup_self
  have hr1 : hup h a (lab, cList (mo + nI 1) arr li.length) arr = some (la, cObjs E cap g) := (hup_ne hne.symm).trans hr
  have f1 : Fr [lab] h (hup h a (lab, cList (mo + nI 1) arr li.length)) := Fr.rf.up ha (List.mem_singleton.mpr rfl)
  have hG1 : GC E (hup h a (lab, cList (mo + nI 1) arr li.length)) := hG.fr f1 (by simpa using hm.symm)
  have hx1 : gAny (hup h a (lab, cList (mo + nI 1) arr li.length)) x := hx.upL
  have hel1 : li.length = cap → ∀ i, i < cap → ∀ y, g i = some y → gAny (hup h a (lab, cList (mo + nI 1) arr li.length)) y := fun hfull i hi y hy => by
    have h9 : li[i]? = some li[i] := List.getElem?_eq_getElem (by omega)
    rw [hg i _ h9] at hy
    cases hy
    exact (hel _ (List.getElem_mem _)).upL
  refine g_aload_n O dJ4_add_10 rfl (by first | rfl | exact rf_ref _) ?_
  refine g_aload_n O dJ4_add_11 rfl (by first | rfl | exact rf_ref _) ?_
  refine g_aload_n O dJ4_add_12 rfl (by first | rfl | exact rf_ref _) ?_
  refine g_get O 5 1 rfl ha1 dJ4_add_13 q161 rfl (by decide) rfl rfl ?_
  refine g_aload_n O dJ4_add_16 rfl (by first | rfl | exact rf_ref _) ?_
  refine g_get O 5 2 rfl ha1 dJ4_add_17 q164 rfl (by decide) rfl rfl ?_
  refine g_callV O (n := 3) (c_J4_add_2 l E _ mc ms hb hG1 ha1 hm hr1 hl hk hn hel1 hx1) rfl rfl ha1 dJ4_add_20 q748 q750 qs3 q45 q751 rfl (by decide +kernel) rfl rfl (by first | decide | omega) (by decide) (by first | exact Nat.le_of_ble_eq_true rfl | omega) (Nat.le_of_eq (Nat.zero_add _)) (Nat.le_of_eq (Nat.zero_add _)) (fun v h2 hp => ?_)
  obtain ⟨rfl, b, n', g', rfl, e1, e2, e3, e4, e5⟩ := hp
  refine g_iconst O dJ4_add_23 (nI 1) rfl ?_
  refine g_zret O dJ4_add_24 rfl (Nat.le_of_eq (Nat.zero_add _)) (Nat.le_of_eq (Nat.zero_add _)) ⟨rfl, ⟨mo + nI 1, b, lab, g', ?_, e2, Or.inl ⟨rfl, ?_⟩, ?_, ?_, ?_⟩, f1.tr e5⟩
  · rw [List.length_append]
    exact e1
  · split <;> omega
  · rw [List.length_append]
    show li.length + 1 ≤ _
    split <;> omega
  · split
    · unfold ncap
      split
      · omega
      · split <;> omega
    · omega
  · intro j y hj
    rcases Nat.lt_trichotomy j li.length with z | z | z
    · rw [List.getElem?_append_left z] at hj
      rw [e3 j z]
      exact hg j y hj
    · subst z
      rw [List.getElem?_append_right (Nat.le_refl _), Nat.sub_self] at hj
      cases hj
      exact e4
    · rw [List.getElem?_eq_none (by rw [List.length_append]; simp; omega)] at hj
      cases hj
theorem c_J23_init (l : Launch) (E : GE) (h : HV) {it lit a lab arr k : Nat} {mo : Int32} (hi : h it = some (lit, .inr (6, [.int 0, .int 0, .int 0, .null]))) (hm : lit ≠ 0) (ha : h a = some (lab, cList mo arr k)) : Cg l E yJ23_init cJ23_init 2 none 1 0 0 [.ref it, .ref a] h (fun v h' => v = none ∧ hup h it (lit, .inr (6, [.int (nI 0), .int (-1), .int mo, .ref a])) = h') := by
  have hne : a ≠ it := hv_ne ha hi (by simp)
  refine Cg.of (by first | exact plainFor_of_name (by decide) | decide +kernel) [some (.ref it), some (.ref a)] (Nat.le_of_ble_eq_true rfl) rfl ?_
  intro p e s m args below meth c O
  refine g_aload_n O dJ23_init_0 rfl (by first | rfl | exact rf_ref _) ?_
  refine g_aload_n O dJ23_init_1 rfl (by first | rfl | exact rf_ref _) ?_
  refine g_putF O 6 3 rfl hi hm dJ23_init_2 q276 rfl (by decide) rfl rfl rfl rfl (by first | exact Nat.le_of_ble_eq_true rfl | omega) ?_
  refine g_aload_n O dJ23_init_5 rfl (by first | rfl | exact rf_ref _) ?_
  refine g_objInit O rfl q272 q87 q88 dJ23_init_6 (by decide) (by first | exact Nat.le_of_ble_eq_true rfl | omega) ?_
  refine g_aload_n O dJ23_init_9 rfl (by first | rfl | exact rf_ref _) ?_
  refine g_iconst O dJ23_init_10 (-1) rfl ?_
  refine g_put O 6 1 rfl hup_self hm dJ23_init_11 q274 rfl (by decide) rfl rfl rfl (by first | exact Nat.le_of_ble_eq_true rfl | omega) ?_
  refine g_aload_n O dJ23_init_14 rfl (by first | rfl | exact rf_ref _) ?_
  refine g_aload_n O dJ23_init_15 rfl (by first | rfl | exact rf_ref _) ?_
  refine g_get O 6 3 rfl hup_self dJ23_init_16 q276 rfl (by decide) rfl rfl ?_
  refine g_getI O 5 0 rfl ((hup_ne hne).trans ((hup_ne hne).trans ha)) dJ23_init_19 q166 q167 (by decide) rfl rfl ?_
  refine g_put O 6 2 rfl hup_self hm dJ23_init_22 q275 rfl (by decide) rfl rfl rfl (by first | exact Nat.le_of_ble_eq_true rfl | omega) ?_
  exact g_vret O dJ23_init_25 (by first | exact Nat.le_of_ble_eq_true rfl | omega) (by first | exact Nat.le_of_ble_eq_true rfl | omega) ⟨rfl, by funext b; unfold hup; by_cases hb : b = it <;> simp [hb, nI_0]⟩
theorem c_J4_iterator (l : Launch) (E : GE) (h : HV) {a lab cap : Nat} {li : List Nat} (lit : Nat) (hm : lit ≠ 0) (hA : AL E h lab a cap li) : Cg l E yJ4_iterator cJ4_iterator 1 (some (.object "java/util/Iterator")) 2 1 4 [.ref a] h (fun v h' => ∃ it, h it = none ∧ v = some (.ref it) ∧ IT E h' lab a cap li lit it 0 ∧ Fr [] h h') := by
  obtain ⟨mo, arr, la, g, ha, hr, hl, hk, hn, hg⟩ := hA
  refine Cg.of (by first | exact plainFor_of_name (by decide) | decide +kernel) [some (.ref a)] (Nat.le_of_ble_eq_true rfl) rfl ?_
  intro p e s m args below meth c O
  refine g_new O lit 6 [.int 0, .int 0, .int 0, .null] rfl dJ4_iterator_0 q267 q268 q69 rfl (by first | exact Nat.le_of_ble_eq_true rfl | omega) (by first | exact Nat.le_of_ble_eq_true rfl | omega) (fun it hit => ?_)
  refine g_dup O dJ4_iterator_3 rfl ?_
  refine g_aload_n O dJ4_iterator_4 rfl (by first | rfl | exact rf_ref _) ?_
  refine g_callI O (n := 1) (c_J23_init l E _ hup_self hm ((hup_ne (hv_neN ha hit)).trans ha)) rfl dJ4_iterator_5 q269 q270 q69 q271 rfl (by decide +kernel) rfl rfl (by first | decide | omega) (by decide) (by first | exact Nat.le_of_ble_eq_true rfl | omega) (by first | exact Nat.le_of_ble_eq_true rfl | omega) (by first | exact Nat.le_of_ble_eq_true rfl | omega) (fun v h1 hp => ?_)
  obtain ⟨rfl, rfl⟩ := hp
  have f : Fr [] h (hup (hup h it (lit, .inr (6, [.int 0, .int 0, .int 0, .null]))) it (lit, .inr (6, [.int (nI 0), .int (-1), .int mo, .ref a]))) := by
    intro b c hc hn
    have hb := hv_neN hc hit
    exact (hup_ne hb).trans ((hup_ne hb).trans hc)
  refine g_aret O dJ4_iterator_8 (Or.inl ⟨_, rfl⟩) (Or.inr ⟨_, rfl⟩) (Nat.le_of_ble_eq_true rfl) (Nat.le_of_ble_eq_true rfl) ⟨it, hit, rfl, ⟨mo, -1, arr, la, g, hup_self, f _ _ ha (by simp), f _ _ hr (by simp), hl, hk, hn, Nat.zero_le _, hg⟩, f⟩
theorem c_J23_hasNext (l : Launch) (E : GE) (h : HV) {a lab cap lit it i : Nat} {li : List Nat} (hI : IT E h lab a cap li lit it i) : Cg l E yJ23_hasNext cJ23_hasNext 1 (some .boolean) 0 0 0 [.ref it] h (fun v h' => v = some (.int (if i < li.length then nI 1 else nI 0)) ∧ h = h') := by
  obtain ⟨mo, lr, arr, la, g, hi, ha, hr, hl, hk, hn, hil, hg⟩ := hI
  refine Cg.of (by first | exact plainFor_of_name (by decide) | decide +kernel) [some (.ref it)] (Nat.le_of_ble_eq_true rfl) rfl ?_
  intro p e s m args below meth c O
  refine g_aload_n O dJ23_hasNext_0 rfl (by first | rfl | exact rf_ref _) ?_
  refine g_get O 6 0 rfl hi dJ23_hasNext_1 q273 rfl (by decide) rfl rfl ?_
  refine g_aload_n O dJ23_hasNext_4 rfl (by first | rfl | exact rf_ref _) ?_
  refine g_get O 6 3 rfl hi dJ23_hasNext_5 q276 rfl (by decide) rfl rfl ?_
  refine g_getN O 5 2 rfl ha dJ23_hasNext_8 q163 rfl (by decide) rfl rfl ?_
  refine g_icmp_eq O 18 dJ23_hasNext_11 (by decide) (fun hc => ?_) (fun hc => ?_)
  · have e : i = li.length := (nI_eq (by omega) (by omega)).mp hc
    refine g_iconst O dJ23_hasNext_18 (nI 0) rfl ?_
    exact g_zret O dJ23_hasNext_19 rfl (by first | exact Nat.le_of_ble_eq_true rfl | omega) (by first | exact Nat.le_of_ble_eq_true rfl | omega) ⟨by rw [if_neg (by omega)], rfl⟩
  · have e : i ≠ li.length := fun z => hc (by rw [z])
    refine g_iconst O dJ23_hasNext_14 (nI 1) rfl ?_
    refine g_goto O 19 dJ23_hasNext_15 (by decide) ?_
    exact g_zret O dJ23_hasNext_19 rfl (by first | exact Nat.le_of_ble_eq_true rfl | omega) (by first | exact Nat.le_of_ble_eq_true rfl | omega) ⟨by rw [if_pos (by omega)], rfl⟩
theorem c_J23_check (l : Launch) (E : GE) (h : HV) {a lab arr k lit it i : Nat} {mo lr : Int32} (hi : h it = some (lit, .inr (6, [.int (nI i), .int lr, .int mo, .ref a]))) (ha : h a = some (lab, cList mo arr k)) : Cg l E yJ23_checkForComodification cJ23_checkForComodification 1 none 0 0 0 [.ref it] h (fun v h' => v = none ∧ h = h') := by
  refine Cg.of (by first | exact plainFor_of_name (by decide) | decide +kernel) [some (.ref it)] (Nat.le_of_ble_eq_true rfl) rfl ?_
  intro p e s m args below meth c O
  refine g_aload_n O dJ23_checkForComodification_0 rfl (by first | rfl | exact rf_ref _) ?_
  refine g_get O 6 3 rfl hi dJ23_checkForComodification_1 q276 rfl (by decide) rfl rfl ?_
  refine g_getI O 5 0 rfl ha dJ23_checkForComodification_4 q166 q167 (by decide) rfl rfl ?_
  refine g_aload_n O dJ23_checkForComodification_7 rfl (by first | rfl | exact rf_ref _) ?_
  refine g_get O 6 2 rfl hi dJ23_checkForComodification_8 q275 rfl (by decide) rfl rfl ?_
  refine g_icmp_eq O 22 dJ23_checkForComodification_11 (by decide) (fun hc => ?_) (fun hc => ?_)
  · exact g_vret O dJ23_checkForComodification_22 (by first | exact Nat.le_of_ble_eq_true rfl | omega) (by first | exact Nat.le_of_ble_eq_true rfl | omega) ⟨rfl, rfl⟩
  · exact absurd rfl hc
theorem c_J23_next (l : Launch) (E : GE) (h : HV) {a lab cap lit it i y : Nat} {li : List Nat} (hm : lit ≠ 0) (hI : IT E h lab a cap li lit it i) (hy : li[i]? = some y) : Cg l E yJ23_next cJ23_next 3 (some (.object "java/lang/Object")) 1 0 0 [.ref it] h (fun v h' => v = some (.ref y) ∧ IT E h' lab a cap li lit it (i + 1) ∧ Ex [it] h h') := by
  obtain ⟨mo, lr, arr, la, g, hi, ha, hr, hl, hk, hn, hil, hg⟩ := hI
  have hlt : i < li.length := (List.getElem?_eq_some_iff.mp hy).1
  refine Cg.of (by first | exact plainFor_of_name (by decide) | decide +kernel) [some (.ref it), none, none] (Nat.le_of_ble_eq_true rfl) rfl ?_
  intro p e s m args below meth c O
  refine g_aload_n O dJ23_next_0 rfl (by first | rfl | exact rf_ref _) ?_
  refine g_callV O (n := 0) (c_J23_check l E h hi ha) rfl rfl hi dJ23_next_1 q305 q306 q307 q69 q308 rfl (by decide +kernel) rfl rfl (by first | decide | omega) (by decide) (by first | exact Nat.le_of_ble_eq_true rfl | omega) (by first | exact Nat.le_of_ble_eq_true rfl | omega) (by first | exact Nat.le_of_ble_eq_true rfl | omega) (fun v h1 hp => ?_)
  obtain ⟨rfl, rfl⟩ := hp
  refine g_aload_n O dJ23_next_4 rfl (by first | rfl | exact rf_ref _) ?_
  refine g_get O 6 0 rfl hi dJ23_next_5 q273 rfl (by decide) rfl rfl ?_
  refine g_istore_n O rfl dJ23_next_8 rfl ?_
  refine g_iload_n O dJ23_next_9 rfl ?_
  refine g_aload_n O dJ23_next_10 rfl (by first | rfl | exact rf_ref _) ?_
  refine g_get O 6 3 rfl hi dJ23_next_11 q276 rfl (by decide) rfl rfl ?_
  refine g_getN O 5 2 rfl ha dJ23_next_14 q163 rfl (by decide) rfl rfl ?_
  refine g_icmp_lt O 28 dJ23_next_17 (by decide) (fun hc => ?_) (fun hc => ?_)
  · refine g_aload_n O dJ23_next_28 rfl (by first | rfl | exact rf_ref _) ?_
    refine g_get O 6 3 rfl hi dJ23_next_29 q276 rfl (by decide) rfl rfl ?_
    refine g_get O 5 1 rfl ha dJ23_next_32 q162 rfl (by decide) rfl rfl ?_
    refine g_astore_n O rfl dJ23_next_35 (by first | rfl | exact rf_ref _) (by first | rfl | exact rf_lst ⟨rfl, rfl⟩) ?_
    refine g_iload_n O dJ23_next_36 rfl ?_
    refine g_aload_n O dJ23_next_37 rfl (by first | rfl | exact rf_ref _) ?_
    refine g_alen O 4 rfl hr dJ23_next_38 ?_
    refine g_icmp_lt O 50 dJ23_next_39 (by decide) (fun hc2 => ?_) (fun hc2 => ?_)
    · have n1 : a ≠ it := hv_ne ha hi (by simp)
      have n2 : arr ≠ it := hv_ne hr hi (by simp)
      refine g_aload_n O dJ23_next_50 rfl (by first | rfl | exact rf_ref _) ?_
      refine g_iload_n O dJ23_next_51 rfl ?_
      refine g_iconst O dJ23_next_52 (nI 1) rfl ?_
      refine g_iadd O dJ23_next_53 ?_
      rw [nI_add]
      refine g_put O 6 0 rfl hi hm dJ23_next_54 q273 rfl (by decide) rfl rfl rfl (by first | exact Nat.le_of_ble_eq_true rfl | omega) ?_
      refine g_aload_n O dJ23_next_57 rfl (by first | rfl | exact rf_ref _) ?_
      refine g_aload_n O dJ23_next_58 rfl (by first | rfl | exact rf_ref _) ?_
      refine g_iload_n O dJ23_next_59 rfl ?_
      refine g_dup_x1 O dJ23_next_60 rfl rfl ?_
      refine g_put O 6 1 rfl hup_self hm dJ23_next_61 q274 rfl (by decide) rfl rfl rfl (by first | exact Nat.le_of_ble_eq_true rfl | omega) ?_
      refine g_aald O i rfl (by omega) (by omega) ((hup_ne n2).trans ((hup_ne n2).trans hr)) dJ23_next_64 ?_
      rw [hg i y hy]
      refine g_aret O dJ23_next_65 (Or.inl ⟨_, rfl⟩) (Or.inr ⟨_, rfl⟩) (Nat.le_of_ble_eq_true rfl) (Nat.le_of_ble_eq_true rfl) ⟨rfl, ⟨mo, nI i, arr, la, g, hup_self, (hup_ne n1).trans ((hup_ne n1).trans ha), (hup_ne n2).trans ((hup_ne n2).trans hr), hl, hk, hn, hlt, hg⟩, (Ex.rf.up (by simp)).up (by simp)⟩
    · exact absurd (nI_lt (by omega) (by omega)) hc2
  · exact absurd (nI_lt (by omega) (by omega)) hc
