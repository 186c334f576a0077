set_option maxRecDepth 100000
/-! ArrayList: taking the last away, putting in between -/
theorem c_J4_fastRemove (l : Launch) (E : GE) (h : HV) {a lab arr n k : Nat} {mo : Int32} {g : Nat → Option Nat} (ha : h a = some (lab, cList mo arr (k + 1))) (hm : lab ≠ 0) (hr : h arr = some (lab, cObjs E n g)) (hk : k < n) (hn : n ≤ 100000) : Cg l E yJ4_fastRemove cJ4_fastRemove 4 none 1 0 0 [.ref a, .ref arr, .int (nI k)] h (fun v h' => v = none ∧ h' a = some (lab, cList (mo + nI 1) arr k) ∧ h' arr = some (lab, cObjs E n (va_up g k none)) ∧ Fr [lab] h h') := by
  have hne : a ≠ arr := hv_ne ha hr (by simp)
  refine Cg.of (by first | exact plainFor_of_name (by decide) | decide +kernel) [some (.ref a), some (.ref arr), some (.int (nI k)), none] (Nat.le_of_ble_eq_true rfl) rfl ?_
  intro p e s m args below meth c O
  refine g_aload_n O dJ4_fastRemove_0 rfl (by first | rfl | exact rf_ref _) ?_
  refine g_dup O dJ4_fastRemove_1 rfl ?_
  refine g_getI O 5 0 rfl ha dJ4_fastRemove_2 q168 q167 (by decide) rfl rfl ?_
  refine g_iconst O dJ4_fastRemove_5 (nI 1) rfl ?_
  refine g_iadd O dJ4_fastRemove_6 ?_
  refine g_putI O 5 0 rfl ha hm dJ4_fastRemove_7 q168 q167 (by decide) rfl rfl rfl (by first | exact Nat.le_of_ble_eq_true rfl | omega) ?_
  refine g_aload_n O dJ4_fastRemove_10 rfl (by first | rfl | exact rf_ref _) ?_
  refine g_get O 5 2 rfl hup_self dJ4_fastRemove_11 q164 rfl (by decide) rfl rfl ?_
  refine g_iconst O dJ4_fastRemove_14 (nI 1) rfl ?_
  refine g_isub O dJ4_fastRemove_15 ?_
  rw [pk_sub (by omega : 1 ≤ k + 1), show k + 1 - 1 = k by omega]
  refine g_dup O dJ4_fastRemove_16 rfl ?_
  refine g_istore_n O rfl dJ4_fastRemove_17 rfl ?_
  refine g_iload_n O dJ4_fastRemove_18 rfl ?_
  refine g_icmp_le O 34 dJ4_fastRemove_19 (by decide) (fun hc => ?_) (fun hc => ?_)
  · have n2 : arr ≠ a := hne.symm
    refine g_aload_n O dJ4_fastRemove_34 rfl (by first | rfl | exact rf_ref _) ?_
    refine g_aload_n O dJ4_fastRemove_35 rfl (by first | rfl | exact rf_ref _) ?_
    refine g_iload_n O dJ4_fastRemove_36 rfl ?_
    refine g_dup_x1 O dJ4_fastRemove_37 rfl rfl ?_
    refine g_put O 5 2 rfl hup_self hm dJ4_fastRemove_38 q164 rfl (by decide) rfl rfl rfl (by first | exact Nat.le_of_ble_eq_true rfl | omega) ?_
    refine g_null O dJ4_fastRemove_41 ?_
    refine g_aastN O k rfl hk (by omega) ((hup_ne n2).trans ((hup_ne n2).trans hr)) hm dJ4_fastRemove_42 ?_
    refine g_vret O dJ4_fastRemove_43 (Nat.le_refl _) (Nat.le_refl _) ⟨rfl, (hup_ne hne).trans hup_self, hup_self, ?_⟩
    exact ((Fr.rf.up ha (List.mem_singleton.mpr rfl)).up hup_self (List.mem_singleton.mpr rfl)).up ((hup_ne n2).trans ((hup_ne n2).trans hr)) (List.mem_singleton.mpr rfl)
  · exact absurd (nI_le (Nat.le_refl k) (by omega)) hc
/-- remove(i), i the last place -/
theorem c_J4_remove (l : Launch) (E : GE) (h : HV) {a lab cap y : Nat} {li : List Nat} (hm : lab ≠ 0) (hA : AL E h lab a cap (li ++ [y])) : Cg l E yJ4_remove cJ4_remove 4 (some (.object "java/lang/Object")) 2 0 0 [.ref a, .int (nI li.length)] h (fun v h' => v = some (.ref y) ∧ AL E h' lab a cap li ∧ Fr [lab] h h') := by
  obtain ⟨mo, arr, la, g, ha, hr, hl, hk, hn, hg⟩ := hA
  rw [List.length_append] at ha hk
  have hk : li.length + 1 ≤ cap := hk
  have ha : h a = some (lab, cList mo arr (li.length + 1)) := ha
  obtain ⟨rfl, hpos⟩ : la = lab ∧ 0 < cap := by
    rcases hl with z | ⟨-, z, -⟩
    · exact z
    · omega
  have hgy : g li.length = some y := hg _ _ (by simp)
  refine Cg.of (by first | exact plainFor_of_name (by decide) | decide +kernel) [some (.ref a), some (.int (nI li.length)), none, none] (Nat.le_of_ble_eq_true rfl) rfl ?_
  intro p e s m args below meth c O
  refine g_iload_n O dJ4_remove_0 rfl ?_
  refine g_aload_n O dJ4_remove_1 rfl (by first | rfl | exact rf_ref _) ?_
  refine g_get O 5 2 rfl ha dJ4_remove_2 q164 rfl (by decide) rfl rfl ?_
  refine g_callS O (n := 2) (c_J26_checkIndex l E h li.length (li.length + 1) (by omega) (by omega)) rfl dJ4_remove_5 q241 q242 q73 q243 (by decide +kernel) rfl rfl (by first | decide | omega) (by decide) (by first | exact Nat.le_of_ble_eq_true rfl | omega) (by first | exact Nat.le_of_ble_eq_true rfl | omega) (by first | exact Nat.le_of_ble_eq_true rfl | omega) (fun v h1 hp => ?_)
  obtain ⟨rfl, rfl⟩ := hp
  refine g_pop O dJ4_remove_8 rfl ?_
  refine g_aload_n O dJ4_remove_9 rfl (by first | rfl | exact rf_ref _) ?_
  refine g_get O 5 1 rfl ha dJ4_remove_10 q161 rfl (by decide) rfl rfl ?_
  refine g_astore_n O rfl dJ4_remove_13 (by first | rfl | exact rf_ref _) (by first | rfl | exact rf_lst ⟨rfl, rfl⟩) ?_
  refine g_aload_n O dJ4_remove_14 rfl (by first | rfl | exact rf_ref _) ?_
  refine g_iload_n O dJ4_remove_15 rfl ?_
  refine g_aald O li.length rfl (by omega) (by omega) hr dJ4_remove_16 ?_
  rw [hgy]
  refine g_astore_n O rfl dJ4_remove_17 (by first | rfl | exact rf_ref _) (by first | rfl | exact rf_lst ⟨rfl, rfl⟩) ?_
  refine g_aload_n O dJ4_remove_18 rfl (by first | rfl | exact rf_ref _) ?_
  refine g_aload_n O dJ4_remove_19 rfl (by first | rfl | exact rf_ref _) ?_
  refine g_iload_n O dJ4_remove_20 rfl ?_
  refine g_callV O (n := 2) (c_J4_fastRemove l E h ha hm hr (by omega) hn) rfl rfl ha dJ4_remove_21 q247 q249 qs0 q45 q250 rfl (by decide +kernel) rfl rfl (by first | decide | omega) (by decide) (by first | exact Nat.le_of_ble_eq_true rfl | omega) (by first | exact Nat.le_of_ble_eq_true rfl | omega) (by first | exact Nat.le_of_ble_eq_true rfl | omega) (fun v h1 hp => ?_)
  obtain ⟨rfl, e1, e2, e3⟩ := hp
  refine g_aload_n O dJ4_remove_24 rfl (by first | rfl | exact rf_ref _) ?_
  refine g_aret O dJ4_remove_25 (Or.inl ⟨_, rfl⟩) (Or.inr ⟨_, rfl⟩) (Nat.le_refl _) (Nat.le_refl _) ⟨rfl, ⟨mo + nI 1, arr, la, _, e1, e2, Or.inl ⟨rfl, hpos⟩, by omega, hn, fun j z hj => ?_⟩, e3⟩
  have hjl : j < li.length := (List.getElem?_eq_some_iff.mp hj).1
  rw [va_up_ne _ _ (by omega)]
  exact hg j z (by rw [List.getElem?_append_left hjl]; exact hj)
theorem c_J4_range (l : Launch) (E : GE) (h : HV) {a lab arr k i : Nat} {mo : Int32} (ha : h a = some (lab, cList mo arr k)) (hi : i ≤ k) (hk : k ≤ 100000) : Cg l E yJ4_rangeCheckForAdd cJ4_rangeCheckForAdd 2 none 0 0 0 [.ref a, .int (nI i)] h (fun v h' => v = none ∧ h = h') := by
  refine Cg.of (by first | exact plainFor_of_name (by decide) | decide +kernel) [some (.ref a), some (.int (nI i))] (Nat.le_of_ble_eq_true rfl) rfl ?_
  intro p e s m args below meth c O
  refine g_iload_n O dJ4_rangeCheckForAdd_0 rfl ?_
  refine g_aload_n O dJ4_rangeCheckForAdd_1 rfl (by first | rfl | exact rf_ref _) ?_
  refine g_get O 5 2 rfl ha dJ4_rangeCheckForAdd_2 q164 rfl (by decide) rfl rfl ?_
  refine g_icmp_gt O 12 dJ4_rangeCheckForAdd_5 (by decide) (fun hc => ?_) (fun hc => ?_)
  · exact absurd ((nI_ltI (by omega) (by omega)).mp hc) (by omega)
  · refine g_iload_n O dJ4_rangeCheckForAdd_8 rfl ?_
    refine g_if_ge O 25 dJ4_rangeCheckForAdd_9 (by decide) (fun hc2 => ?_) (fun hc2 => ?_)
    · exact g_vret O dJ4_rangeCheckForAdd_25 (by first | exact Nat.le_of_ble_eq_true rfl | omega) (by first | exact Nat.le_of_ble_eq_true rfl | omega) ⟨rfl, rfl⟩
    · exact absurd (nI_pos' (by omega)) hc2
/-- x between the first i and the rest -/
def lins (li : List Nat) (i x : Nat) : List Nat := li.take i ++ x :: li.drop i
theorem lins_len (li : List Nat) (i x : Nat) (hi : i ≤ li.length) : (lins li i x).length = li.length + 1 := by
  unfold lins
  rw [List.length_append, List.length_cons, List.length_take, List.length_drop]
  omega
theorem lins_lo {li : List Nat} {i x j : Nat} (hi : i ≤ li.length) (hj : j < i) : (lins li i x)[j]? = li[j]? := by
  unfold lins
  rw [List.getElem?_append_left (by rw [List.length_take]; omega), List.getElem?_take, if_pos hj]
theorem lins_at {li : List Nat} {i x : Nat} (hi : i ≤ li.length) : (lins li i x)[i]? = some x := by
  unfold lins
  rw [List.getElem?_append_right (by rw [List.length_take]; omega), List.length_take, show i - min i li.length = 0 by omega]
  rfl
theorem lins_hi {li : List Nat} {i x j : Nat} (hi : i ≤ li.length) (hj : i ≤ j) : (lins li i x)[j + 1]? = li[j]? := by
  unfold lins
  rw [List.getElem?_append_right (by rw [List.length_take]; omega), List.length_take, show j + 1 - min i li.length = (j - i) + 1 by omega, List.getElem?_cons_succ, List.getElem?_drop]
  congr 1
  omega
/-- add(i, e) -/
theorem c_J4_add_3 (l : Launch) (E : GE) (h : HV) {a lab cap x i : Nat} {li : List Nat} (mc ms : Nat) (hb : li.length = cap → 1 ≤ mc ∧ ncap cap ≤ ms) (hc1 : cap ≤ 60000) (hi : i ≤ li.length) (hG : GC E h) (hA : AL E h lab a cap li) (hm : lab ≠ 0) (hel : ∀ y ∈ li, gAny h y) (hx : gAny h x) :
    Cg l E yJ4_add_3 cJ4_add_3 5 none 6 mc ms [.ref a, .int (nI i), .ref x] h (fun v h' => v = none ∧ AL E h' lab a (if li.length = cap then ncap cap else cap) (lins li i x) ∧ Fr [lab] h h') := by
  obtain ⟨mo, arr, la, g, ha, hr, hl, hk, hn, hg⟩ := hA
  have hcap := ncap_le hn
  have hne : a ≠ arr := hv_ne ha hr (by simp)
  have hcap2 : ncap cap ≤ 100000 := by
    unfold ncap
    split
    · omega
    · split <;> omega
  refine Cg.of (by first | exact plainFor_of_name (by decide) | decide +kernel) [some (.ref a), some (.int (nI i)), some (.ref x), none, none] (Nat.le_of_ble_eq_true rfl) rfl ?_
  intro p e s m args below meth c O
  refine g_aload_n O dJ4_add_3_0 rfl (by first | rfl | exact rf_ref _) ?_
  refine g_iload_n O dJ4_add_3_1 rfl ?_
  refine g_callV O (n := 1) (c_J4_range l E h ha hi (by omega)) rfl rfl ha dJ4_add_3_2 q1495 q1497 qs19 q45 q1498 rfl (by decide +kernel) rfl rfl (by first | decide | omega) (by decide) (by first | exact Nat.le_of_ble_eq_true rfl | omega) (by first | exact Nat.le_of_ble_eq_true rfl | omega) (by first | exact Nat.le_of_ble_eq_true rfl | omega) (fun v h1 hp => ?_)
  obtain ⟨rfl, rfl⟩ := hp
  refine g_aload_n O dJ4_add_3_5 rfl (by first | rfl | exact rf_ref _) ?_
  refine g_dup O dJ4_add_3_6 rfl ?_
  refine g_getI O 5 0 rfl ha dJ4_add_3_7 q168 q167 (by decide) rfl rfl ?_
  refine g_iconst O dJ4_add_3_10 (nI 1) rfl ?_
  refine g_iadd O dJ4_add_3_11 ?_
  refine g_putI O 5 0 rfl ha hm dJ4_add_3_12 q168 q167 (by decide) rfl rfl rfl (by first | exact Nat.le_of_ble_eq_true rfl | omega) ?_
  have ha1 : hup h a (lab, cList (mo + nI 1) arr li.length) a = some (lab, cList (mo + nI 1) arr li.length) := hup_self
  have hr1 : hup h a (lab, cList (mo + nI 1) arr li.length) arr = some (la, cObjs E cap g) := (hup_ne hne.symm).trans hr
  have f1 : Fr [lab] h (hup h a (lab, cList (mo + nI 1) arr li.length)) := Fr.rf.up ha (List.mem_singleton.mpr rfl)
  have hG1 : GC E (hup h a (lab, cList (mo + nI 1) arr li.length)) := hG.fr f1 (by simpa using hm.symm)
  have hx1 : gAny (hup h a (lab, cList (mo + nI 1) arr li.length)) x := hx.upL
  have hel1 : ∀ y ∈ li, gAny (hup h a (lab, cList (mo + nI 1) arr li.length)) y := fun y hy => (hel y hy).upL
  have hgl : ∀ j y, j < li.length → g j = some y → y ∈ li := fun j y hj hy => by
    have h9 : li[j]? = some li[j] := List.getElem?_eq_getElem hj
    rw [hg j _ h9] at hy
    cases hy
    exact List.getElem_mem _
  obtain ⟨h1, hh1⟩ : ∃ h1, hup h a (lab, cList (mo + nI 1) arr li.length) = h1 := ⟨_, rfl⟩
  rw [hh1] at ha1 hr1 f1 hG1 hx1 hel1
  refine Wg.H h1 (by rw [← hh1]; rfl) ?_
  clear hh1
  -- behind the room is made: the array b of n' places
  have rest : ∀ (h2 : HV) (b n' cells slots : Nat) (g' : Nat → Option Nat), cells ≤ mc → slots ≤ ms → h2 a = some (lab, cList (mo + nI 1) b li.length) → h2 b = some (lab, cObjs E n' g') → (∀ j, j < li.length → g' j = g j) → li.length < n' → n' ≤ 100000 → Fr [lab] h h2 → (∀ y ∈ li, gAny h2 y) → gAny h2 x → n' = (if li.length = cap then ncap cap else cap) →
      Wg p l e (rmG 6 mc ms) s m args below meth c E (MQ below (gQ E (fun v h' => v = none ∧ AL E h' lab a (if li.length = cap then ncap cap else cap) (lins li i x) ∧ Fr [lab] h h')) args s mc ms (gA E)) 38 [some (.ref a), some (.int (nI i)), some (.ref x), some (.int (nI li.length)), some (.ref b)] [] h2 cells slots := by
    intro h2 b n' cells slots g' hcs hss q1 q2 q3 q4 q5 q6 q7 q8 q9
    have hab : a ≠ b := hv_ne q1 q2 (by simp)
    refine g_aload O dJ4_add_3_38 rfl (by first | rfl | exact rf_ref _) ?_
    refine g_iload_n O dJ4_add_3_40 rfl ?_
    refine g_aload O dJ4_add_3_41 rfl (by first | rfl | exact rf_ref _) ?_
    refine g_iload_n O dJ4_add_3_43 rfl ?_
    refine g_iconst O dJ4_add_3_44 (nI 1) rfl ?_
    refine g_iadd O dJ4_add_3_45 ?_
    rw [nI_add]
    refine g_iload_n O dJ4_add_3_46 rfl ?_
    refine g_iload_n O dJ4_add_3_47 rfl ?_
    refine g_isub O dJ4_add_3_48 ?_
    rw [pk_sub hi]
    refine g_acopyO O i (i + 1) (li.length - i) rfl rfl rfl q2 hm q2 hm (by omega) (by omega) (by omega) (by omega) (fun k hk2 y hy => ?_) q251 rfl (by decide) (Nat.le_of_ble_eq_true rfl) dJ4_add_3_49 ?_
    · rw [q3 _ (by omega)] at hy
      exact q7 y (hgl _ y (by omega) hy)
    · have q8' : gAny (hup h2 b (lab, cObjs E n' (va_cpy g' g' i (i + 1) (li.length - i)))) x := q8.upO q2
      obtain ⟨lx, cx, Nx, fx, Cx, Tx, x1, x2, x3⟩ := q8'
      refine g_aload O dJ4_add_3_52 rfl (by first | rfl | exact rf_ref _) ?_
      refine g_iload_n O dJ4_add_3_54 rfl ?_
      refine g_aload_n O dJ4_add_3_55 rfl (by first | rfl | exact rf_ref _) ?_
      refine g_aast O i rfl (by omega) (by omega) hup_self hm x1 x2 x3 dJ4_add_3_56 ?_
      have q1' : hup (hup h2 b (lab, cObjs E n' (va_cpy g' g' i (i + 1) (li.length - i)))) b (lab, cObjs E n' (va_up (va_cpy g' g' i (i + 1) (li.length - i)) i (some x))) a = some (lab, cList (mo + nI 1) b li.length) := (hup_ne hab).trans ((hup_ne hab).trans q1)
      refine g_aload_n O dJ4_add_3_57 rfl (by first | rfl | exact rf_ref _) ?_
      refine g_iload_n O dJ4_add_3_58 rfl ?_
      refine g_iconst O dJ4_add_3_59 (nI 1) rfl ?_
      refine g_iadd O dJ4_add_3_60 ?_
      rw [nI_add]
      refine g_put O 5 2 rfl q1' hm dJ4_add_3_61 q164 rfl (by decide) rfl rfl rfl (by first | exact Nat.le_of_ble_eq_true rfl | omega) ?_
      refine g_vret O dJ4_add_3_64 hcs hss ⟨rfl, ⟨mo + nI 1, b, lab, va_up (va_cpy g' g' i (i + 1) (li.length - i)) i (some x), ?_, (hup_ne hab.symm).trans (by rw [← q9]; exact hup_self), Or.inl ⟨rfl, by omega⟩, ?_, by omega, ?_⟩, ?_⟩
      · rw [lins_len _ _ _ hi]
        exact hup_self
      · rw [lins_len _ _ _ hi]
        omega
      · intro j y hj
        rcases Nat.lt_trichotomy j i with z | z | z
        · rw [lins_lo hi z] at hj
          rw [va_up_ne _ _ (by omega)]
          have : va_cpy g' g' i (i + 1) (li.length - i) j = g' j := by
            unfold va_cpy
            rw [if_neg (by omega)]
          rw [this, q3 j (by omega)]
          exact hg j y hj
        · subst z
          rw [lins_at hi] at hj
          cases hj
          exact va_up_self _ _ _
        · obtain ⟨j', rfl⟩ : ∃ j', j = j' + 1 := ⟨j - 1, by omega⟩
          rw [lins_hi hi (by omega)] at hj
          have hjl : j' < li.length := (List.getElem?_eq_some_iff.mp hj).1
          rw [va_up_ne _ _ (by omega)]
          have : va_cpy g' g' i (i + 1) (li.length - i) (j' + 1) = g' j' := by
            unfold va_cpy
            rw [if_pos (by omega)]
            congr 1
            omega
          rw [this, q3 j' hjl]
          exact hg j' y hj
      · exact ((q6.up q2 (List.mem_singleton.mpr rfl)).up hup_self (List.mem_singleton.mpr rfl)).up q1' (List.mem_singleton.mpr rfl)
  refine g_aload_n O dJ4_add_3_15 rfl (by first | rfl | exact rf_ref _) ?_
  refine g_get O 5 2 rfl ha1 dJ4_add_3_16 q164 rfl (by decide) rfl rfl ?_
  refine g_dup O dJ4_add_3_19 rfl ?_
  refine g_istore_n O rfl dJ4_add_3_20 rfl ?_
  refine g_aload_n O dJ4_add_3_21 rfl (by first | rfl | exact rf_ref _) ?_
  refine g_get O 5 1 rfl ha1 dJ4_add_3_22 q161 rfl (by decide) rfl rfl ?_
  refine g_dup O dJ4_add_3_25 rfl ?_
  refine g_astore O dJ4_add_3_26 (by first | rfl | exact rf_ref _) (by first | rfl | exact rf_lst ⟨rfl, rfl⟩) ?_
  refine g_alen O 4 rfl hr1 dJ4_add_3_28 ?_
  refine g_icmp_ne O 38 dJ4_add_3_29 (by decide) (fun hc => ?_) (fun hc => ?_)
  · have hkn : li.length ≠ cap := fun z => hc (by rw [z])
    obtain ⟨rfl, -⟩ : la = lab ∧ 0 < cap := by
      rcases hl with z | ⟨-, z, -⟩
      · exact z
      · omega
    exact rest h1 arr cap 0 0 g (Nat.zero_le _) (Nat.zero_le _) ha1 hr1 (fun _ _ => rfl) (by omega) hn f1 hel1 hx1 (if_neg hkn).symm
  · have hkn : li.length = cap := (nI_eq (by omega) (by omega)).mp (by first | exact hc | exact Decidable.of_not_not hc)
    obtain ⟨hb1, hb2⟩ := hb hkn
    rw [← hkn] at hr1 hl hn hcap hb2
    refine g_aload_n O dJ4_add_3_32 rfl (by first | rfl | exact rf_ref _) ?_
    refine g_callV O (n := 0) (c_J4_grow l E h1 hG1 ha1 hm hr1 hl hn (fun j hj y hy => hel1 y (hgl j y hj hy))) rfl rfl ha1 dJ4_add_3_33 q752 q754 qs4 q45 q755 rfl (by decide +kernel) rfl rfl (by first | decide | omega) (by decide) (by first | exact Nat.le_of_ble_eq_true rfl | omega) (by omega) (by omega) (fun v h2 hp => ?_)
    obtain ⟨b, hbn, rfl, rfl⟩ := hp
    have hab : a ≠ b := hv_neN ha1 hbn
    refine g_astore O dJ4_add_3_36 (by first | rfl | exact rf_ref _) (by first | rfl | exact rf_lst ⟨rfl, rfl⟩) ?_
    refine rest _ b (ncap li.length) _ _ _ (by omega) (by omega) hup_self ((hup_ne hab.symm).trans hup_self) (fun j hj => if_pos hj) (by omega) (by rw [hkn]; exact hcap2) ?_ (fun y hy => ((hel1 y hy).new hbn).upL) ((hx1.new hbn).upL) (by rw [if_pos hkn, hkn])
    exact (f1.new hbn).up ((hup_ne hab).trans ha1) (List.mem_singleton.mpr rfl)
