set_option maxRecDepth 100000
/-! counts: what rows say, weights -/
/-- the sum of the first n of g -/
def tot (g : Nat → Nat) : Nat → Nat
  | 0 => 0
  | n + 1 => tot g n + g n
theorem tot_le {g : Nat → Nat} : ∀ {n m : Nat}, n ≤ m → tot g n ≤ tot g m
  | n, 0, h => by rw [show n = 0 by omega]; exact Nat.le_refl _
  | n, m + 1, h => by
    rcases Nat.lt_or_ge n (m + 1) with z | z
    · exact Nat.le_trans (tot_le (m := m) (by omega)) (Nat.le_add_right _ _)
    · rw [show n = m + 1 by omega]; exact Nat.le_refl _
theorem tot_at {g : Nat → Nat} {n j : Nat} (h : j < n) : g j ≤ tot g n := Nat.le_trans (Nat.le_add_left _ _) (tot_le (n := j + 1) h)
theorem nI_mul (a b : Nat) : nI a * nI b = nI (a * b) := (Int32.ofNat_mul a b).symm
theorem nI_nz {n : Nat} (h : n < 2 ^ 31) : nI n = 0 ↔ n = 0 := by rw [← nI_0]; exact nI_eq h (by decide)
/-- a row of counts at r, or none where all are 0 -/
def RO (E : GE) (h : HV) (lr : Nat) (g : Nat → Nat) (o : Option Nat) : Prop := (o = none ∧ tot g 5 = 0) ∨ (∃ r row, o = some r ∧ tot g 5 ≠ 0 ∧ h r = some (lr, cInts E 5 row) ∧ ∀ j, j < 5 → row j = nI (g j))
theorem c_X2_rowOf_W (l : Launch) (E : GE) (h : HV) {la a lm lr b : Nat} {w : List Nat} {cnt : List Nat → Nat → Nat} (hlr : lr ≠ 0) (hC : CO E h 1 la a lm lr cnt) (hw : Str E h b w) (hl : w.length ≤ 7) (hb : tot (cnt w) 5 ≤ 1000000) : Cg l E yX2_rowOf cX2_rowOf 5 (some (.array .int)) 7 0 0 [.ref a, .ref b] h (fun v h' => (∃ o : Option Nat, v = some (va_rf o) ∧ RO E h lr (cnt w) o) ∧ h = h') := by
  obtain ⟨t, f, c1, c2, c3, c4, c5⟩ := hC
  obtain ⟨root, sz, mo, hcell⟩ := c2.cell
  refine Cg.of (by first | exact plainFor_of_name (by decide) | decide +kernel) [some (.ref a), some (.ref b), none, none, none] (Nat.le_of_ble_eq_true rfl) rfl ?_
  intro p e s m args below meth c O
  refine g_aload_n O dX2_rowOf_0 rfl (by first | rfl | exact rf_ref _) ?_
  refine g_get O 1 0 rfl c1 dX2_rowOf_1 q133 rfl (by decide) rfl rfl ?_
  refine g_aload_n O dX2_rowOf_4 rfl (by first | rfl | exact rf_ref _) ?_
  refine g_callV O (n := 1) (c_J1_get l E h c2 hw hl) rfl rfl hcell dX2_rowOf_5 q836 q837 q838 q41 q839 rfl (by decide +kernel) rfl rfl (by first | decide | omega) (by decide) (by first | exact Nat.le_of_ble_eq_true rfl | omega) (by first | exact Nat.le_of_ble_eq_true rfl | omega) (by first | exact Nat.le_of_ble_eq_true rfl | omega) (fun v h1 hp => ?_)
  obtain ⟨rfl, rfl⟩ := hp
  cases hf : f w with
  | none =>
    have hz := c4 w hf
    have h0 : tot (cnt w) 5 = 0 := by simp [tot, hz]
    refine g_castNull O q1062 dX2_rowOf_8 ?_
    refine g_astore_n O rfl dX2_rowOf_11 (by first | rfl | exact rf_ref _) (by first | rfl | exact rf_lst ⟨rfl, rfl⟩) ?_
    refine g_iconst O dX2_rowOf_12 (nI 0) rfl ?_
    refine g_istore_n O rfl dX2_rowOf_13 rfl ?_
    refine g_iconst O dX2_rowOf_14 (nI 0) rfl ?_
    refine g_istore O dX2_rowOf_15 rfl ?_
    refine g_iload O dX2_rowOf_17 rfl ?_
    refine g_iconst O dX2_rowOf_19 (nI 5) rfl ?_
    refine g_icmp_ge O 40 dX2_rowOf_20 (by decide) (fun hc => ?_) (fun hc => ?_)
    · exact absurd hc (by decide)
    · refine g_aload_n O dX2_rowOf_23 rfl (by first | rfl | exact rf_ref _) ?_
      refine g_ifnull O 40 dX2_rowOf_24 (by decide) rfl (fun hc2 => ?_) (fun hc2_a hc2 => ?_)
      · refine g_iload_n O dX2_rowOf_40 rfl ?_
        refine g_if_ne O 48 dX2_rowOf_41 (by decide) (fun hc3 => ?_) (fun hc3 => ?_)
        · exact absurd nI_0 hc3
        · refine g_null O dX2_rowOf_44 ?_
          refine g_goto O 49 dX2_rowOf_45 (by decide) ?_
          exact g_aret O dX2_rowOf_49 (by first | exact Or.inl ⟨_, rfl⟩ | exact Or.inr ⟨_, rfl⟩) (by first | exact Or.inl rfl | exact Or.inr ⟨_, rfl⟩) (by first | exact Nat.le_of_ble_eq_true rfl | omega) (by first | exact Nat.le_of_ble_eq_true rfl | omega) ⟨⟨none, rfl, Or.inl ⟨rfl, h0⟩⟩, rfl⟩
      · cases hc2
  | some r =>
    obtain ⟨row, hr, hrow⟩ := c3 w r hf
    have loop : ∀ d j, j + d = 5 → Wg p l e (rmG 7 0 0) s m args below meth c E (MQ below (gQ E (fun v h' => (∃ o : Option Nat, v = some (va_rf o) ∧ RO E h lr (cnt w) o) ∧ h = h')) args s 0 0 (gA E)) 17 [some (.ref a), some (.ref b), some (.ref r), some (.int (nI (tot (cnt w) j))), some (.int (nI j))] [] h 0 0 := by
      intro d
      induction d with
      | zero =>
        intro j hj
        obtain rfl : j = 5 := by omega
        refine g_iload O dX2_rowOf_17 rfl ?_
        refine g_iconst O dX2_rowOf_19 (nI 5) rfl ?_
        refine g_icmp_ge O 40 dX2_rowOf_20 (by decide) (fun hc => ?_) (fun hc => ?_)
        · refine g_iload_n O dX2_rowOf_40 rfl ?_
          refine g_if_ne O 48 dX2_rowOf_41 (by decide) (fun hc3 => ?_) (fun hc3 => ?_)
          · refine g_aload_n O dX2_rowOf_48 rfl (by first | rfl | exact rf_ref _) ?_
            exact g_aret O dX2_rowOf_49 (by first | exact Or.inl ⟨_, rfl⟩ | exact Or.inr ⟨_, rfl⟩) (by first | exact Or.inl rfl | exact Or.inr ⟨_, rfl⟩) (by first | exact Nat.le_of_ble_eq_true rfl | omega) (by first | exact Nat.le_of_ble_eq_true rfl | omega) ⟨⟨some r, rfl, Or.inr ⟨r, row, rfl, fun z => hc3 (by rw [z]; exact nI_0), hr, hrow⟩⟩, rfl⟩
          · refine g_null O dX2_rowOf_44 ?_
            refine g_goto O 49 dX2_rowOf_45 (by decide) ?_
            exact g_aret O dX2_rowOf_49 (by first | exact Or.inl ⟨_, rfl⟩ | exact Or.inr ⟨_, rfl⟩) (by first | exact Or.inl rfl | exact Or.inr ⟨_, rfl⟩) (by first | exact Nat.le_of_ble_eq_true rfl | omega) (by first | exact Nat.le_of_ble_eq_true rfl | omega) ⟨⟨none, rfl, Or.inl ⟨rfl, (nI_nz (by omega)).mp hc3⟩⟩, rfl⟩
        · exact absurd (Int32.le_refl _) hc
      | succ d ih =>
        intro j hj
        refine g_iload O dX2_rowOf_17 rfl ?_
        refine g_iconst O dX2_rowOf_19 (nI 5) rfl ?_
        refine g_icmp_ge O 40 dX2_rowOf_20 (by decide) (fun hc => ?_) (fun hc => ?_)
        · exact absurd ((nI_leI (by decide) (by omega)).mp hc) (by omega)
        · refine g_aload_n O dX2_rowOf_23 rfl (by first | rfl | exact rf_ref _) ?_
          refine g_ifnull O 40 dX2_rowOf_24 (by decide) rfl (fun hc2 => ?_) (fun hc2_a hc2 => ?_)
          · cases hc2
          · refine g_iload_n O dX2_rowOf_27 rfl ?_
            refine g_aload_n O dX2_rowOf_28 rfl (by first | rfl | exact rf_ref _) ?_
            refine g_iload O dX2_rowOf_29 rfl ?_
            refine g_iald O j rfl (by omega : j < 5) (by decide) hr dX2_rowOf_31 ?_
            rw [hrow j (by omega)]
            refine g_iadd O dX2_rowOf_32 ?_
            rw [nI_add]
            refine g_istore_n O rfl dX2_rowOf_33 rfl ?_
            refine g_iinc O dX2_rowOf_34 rfl (by first | rfl | exact rf_lok rfl) ?_
            refine g_goto O 17 dX2_rowOf_37 (by decide) ?_
            refine Wg.L [some (.ref a), some (.ref b), some (.ref r), some (.int (nI (tot (cnt w) (j + 1)))), some (.int (nI (j + 1)))] (by rw [← nI_1 j]; rfl) ?_
            exact ih (j + 1) (by omega)
    refine g_castA O hlr hr (g_nmI O) q1062 dX2_rowOf_8 ?_
    refine g_astore_n O rfl dX2_rowOf_11 (by first | rfl | exact rf_ref _) (by first | rfl | exact rf_lst ⟨rfl, rfl⟩) ?_
    refine g_iconst O dX2_rowOf_12 (nI 0) rfl ?_
    refine g_istore_n O rfl dX2_rowOf_13 rfl ?_
    refine g_iconst O dX2_rowOf_14 (nI 0) rfl ?_
    refine g_istore O dX2_rowOf_15 rfl ?_
    exact loop 5 0 (by omega)
theorem c_X2_rowOf_E (l : Launch) (E : GE) (h : HV) {la a lm lr b : Nat} {w : List Nat} {cnt : List Nat → Nat → Nat} (hlr : lr ≠ 0) (hC : CO E h 2 la a lm lr cnt) (hw : Str E h b w) (hl : w.length ≤ 7) (hb : tot (cnt w) 5 ≤ 1000000) : Cg l E yX2_rowOf cX2_rowOf 5 (some (.array .int)) 7 0 0 [.ref a, .ref b] h (fun v h' => (∃ o : Option Nat, v = some (va_rf o) ∧ RO E h lr (cnt w) o) ∧ h = h') := by
  obtain ⟨t, f, c1, c2, c3, c4, c5⟩ := hC
  obtain ⟨root, sz, mo, hcell⟩ := c2.cell
  refine Cg.of (by first | exact plainFor_of_name (by decide) | decide +kernel) [some (.ref a), some (.ref b), none, none, none] (Nat.le_of_ble_eq_true rfl) rfl ?_
  intro p e s m args below meth c O
  refine g_aload_n O dX2_rowOf_0 rfl (by first | rfl | exact rf_ref _) ?_
  refine g_get O 2 0 rfl c1 dX2_rowOf_1 q133 rfl (by decide) rfl rfl ?_
  refine g_aload_n O dX2_rowOf_4 rfl (by first | rfl | exact rf_ref _) ?_
  refine g_callV O (n := 1) (c_J1_get l E h c2 hw hl) rfl rfl hcell dX2_rowOf_5 q836 q837 q838 q41 q839 rfl (by decide +kernel) rfl rfl (by first | decide | omega) (by decide) (by first | exact Nat.le_of_ble_eq_true rfl | omega) (by first | exact Nat.le_of_ble_eq_true rfl | omega) (by first | exact Nat.le_of_ble_eq_true rfl | omega) (fun v h1 hp => ?_)
  obtain ⟨rfl, rfl⟩ := hp
  cases hf : f w with
  | none =>
    have hz := c4 w hf
    have h0 : tot (cnt w) 5 = 0 := by simp [tot, hz]
    refine g_castNull O q1062 dX2_rowOf_8 ?_
    refine g_astore_n O rfl dX2_rowOf_11 (by first | rfl | exact rf_ref _) (by first | rfl | exact rf_lst ⟨rfl, rfl⟩) ?_
    refine g_iconst O dX2_rowOf_12 (nI 0) rfl ?_
    refine g_istore_n O rfl dX2_rowOf_13 rfl ?_
    refine g_iconst O dX2_rowOf_14 (nI 0) rfl ?_
    refine g_istore O dX2_rowOf_15 rfl ?_
    refine g_iload O dX2_rowOf_17 rfl ?_
    refine g_iconst O dX2_rowOf_19 (nI 5) rfl ?_
    refine g_icmp_ge O 40 dX2_rowOf_20 (by decide) (fun hc => ?_) (fun hc => ?_)
    · exact absurd hc (by decide)
    · refine g_aload_n O dX2_rowOf_23 rfl (by first | rfl | exact rf_ref _) ?_
      refine g_ifnull O 40 dX2_rowOf_24 (by decide) rfl (fun hc2 => ?_) (fun hc2_a hc2 => ?_)
      · refine g_iload_n O dX2_rowOf_40 rfl ?_
        refine g_if_ne O 48 dX2_rowOf_41 (by decide) (fun hc3 => ?_) (fun hc3 => ?_)
        · exact absurd nI_0 hc3
        · refine g_null O dX2_rowOf_44 ?_
          refine g_goto O 49 dX2_rowOf_45 (by decide) ?_
          exact g_aret O dX2_rowOf_49 (by first | exact Or.inl ⟨_, rfl⟩ | exact Or.inr ⟨_, rfl⟩) (by first | exact Or.inl rfl | exact Or.inr ⟨_, rfl⟩) (by first | exact Nat.le_of_ble_eq_true rfl | omega) (by first | exact Nat.le_of_ble_eq_true rfl | omega) ⟨⟨none, rfl, Or.inl ⟨rfl, h0⟩⟩, rfl⟩
      · cases hc2
  | some r =>
    obtain ⟨row, hr, hrow⟩ := c3 w r hf
    have loop : ∀ d j, j + d = 5 → Wg p l e (rmG 7 0 0) s m args below meth c E (MQ below (gQ E (fun v h' => (∃ o : Option Nat, v = some (va_rf o) ∧ RO E h lr (cnt w) o) ∧ h = h')) args s 0 0 (gA E)) 17 [some (.ref a), some (.ref b), some (.ref r), some (.int (nI (tot (cnt w) j))), some (.int (nI j))] [] h 0 0 := by
      intro d
      induction d with
      | zero =>
        intro j hj
        obtain rfl : j = 5 := by omega
        refine g_iload O dX2_rowOf_17 rfl ?_
        refine g_iconst O dX2_rowOf_19 (nI 5) rfl ?_
        refine g_icmp_ge O 40 dX2_rowOf_20 (by decide) (fun hc => ?_) (fun hc => ?_)
        · refine g_iload_n O dX2_rowOf_40 rfl ?_
          refine g_if_ne O 48 dX2_rowOf_41 (by decide) (fun hc3 => ?_) (fun hc3 => ?_)
          · refine g_aload_n O dX2_rowOf_48 rfl (by first | rfl | exact rf_ref _) ?_
            exact g_aret O dX2_rowOf_49 (by first | exact Or.inl ⟨_, rfl⟩ | exact Or.inr ⟨_, rfl⟩) (by first | exact Or.inl rfl | exact Or.inr ⟨_, rfl⟩) (by first | exact Nat.le_of_ble_eq_true rfl | omega) (by first | exact Nat.le_of_ble_eq_true rfl | omega) ⟨⟨some r, rfl, Or.inr ⟨r, row, rfl, fun z => hc3 (by rw [z]; exact nI_0), hr, hrow⟩⟩, rfl⟩
          · refine g_null O dX2_rowOf_44 ?_
            refine g_goto O 49 dX2_rowOf_45 (by decide) ?_
            exact g_aret O dX2_rowOf_49 (by first | exact Or.inl ⟨_, rfl⟩ | exact Or.inr ⟨_, rfl⟩) (by first | exact Or.inl rfl | exact Or.inr ⟨_, rfl⟩) (by first | exact Nat.le_of_ble_eq_true rfl | omega) (by first | exact Nat.le_of_ble_eq_true rfl | omega) ⟨⟨none, rfl, Or.inl ⟨rfl, (nI_nz (by omega)).mp hc3⟩⟩, rfl⟩
        · exact absurd (Int32.le_refl _) hc
      | succ d ih =>
        intro j hj
        refine g_iload O dX2_rowOf_17 rfl ?_
        refine g_iconst O dX2_rowOf_19 (nI 5) rfl ?_
        refine g_icmp_ge O 40 dX2_rowOf_20 (by decide) (fun hc => ?_) (fun hc => ?_)
        · exact absurd ((nI_leI (by decide) (by omega)).mp hc) (by omega)
        · refine g_aload_n O dX2_rowOf_23 rfl (by first | rfl | exact rf_ref _) ?_
          refine g_ifnull O 40 dX2_rowOf_24 (by decide) rfl (fun hc2 => ?_) (fun hc2_a hc2 => ?_)
          · cases hc2
          · refine g_iload_n O dX2_rowOf_27 rfl ?_
            refine g_aload_n O dX2_rowOf_28 rfl (by first | rfl | exact rf_ref _) ?_
            refine g_iload O dX2_rowOf_29 rfl ?_
            refine g_iald O j rfl (by omega : j < 5) (by decide) hr dX2_rowOf_31 ?_
            rw [hrow j (by omega)]
            refine g_iadd O dX2_rowOf_32 ?_
            rw [nI_add]
            refine g_istore_n O rfl dX2_rowOf_33 rfl ?_
            refine g_iinc O dX2_rowOf_34 rfl (by first | rfl | exact rf_lok rfl) ?_
            refine g_goto O 17 dX2_rowOf_37 (by decide) ?_
            refine Wg.L [some (.ref a), some (.ref b), some (.ref r), some (.int (nI (tot (cnt w) (j + 1)))), some (.int (nI (j + 1)))] (by rw [← nI_1 j]; rfl) ?_
            exact ih (j + 1) (by omega)
    refine g_castA O hlr hr (g_nmI O) q1062 dX2_rowOf_8 ?_
    refine g_astore_n O rfl dX2_rowOf_11 (by first | rfl | exact rf_ref _) (by first | rfl | exact rf_lst ⟨rfl, rfl⟩) ?_
    refine g_iconst O dX2_rowOf_12 (nI 0) rfl ?_
    refine g_istore_n O rfl dX2_rowOf_13 rfl ?_
    refine g_iconst O dX2_rowOf_14 (nI 0) rfl ?_
    refine g_istore O dX2_rowOf_15 rfl ?_
    exact loop 5 0 (by omega)
theorem c_X4_times (l : Launch) (E : GE) (h : HV) {a : Nat} : Cg l E yX4_times cX4_times 1 (some .int) 0 0 0 [.ref a] h (fun v h' => v = some (.int (nI 4)) ∧ h = h') := by
  refine Cg.of (by first | exact plainFor_of_name (by decide) | decide +kernel) [some (.ref a)] (Nat.le_of_ble_eq_true rfl) rfl ?_
  intro p e s m args below meth c O
  refine g_iconst O dX4_times_0 (nI 4) rfl ?_
  exact g_iret O dX4_times_1 (by first | exact Nat.le_of_ble_eq_true rfl | omega) (by first | exact Nat.le_of_ble_eq_true rfl | omega) ⟨rfl, rfl⟩
theorem c_X3_weight_W (l : Launch) (E : GE) (h : HV) {la a lr r tag : Nat} {fs : List Value} {row : Nat → Int32} {g : Nat → Nat} (ha : h a = some (la, .inr (1, fs))) (hr : h r = some (lr, cInts E 5 row)) (hrow : ∀ j, j < 5 → row j = nI (g j)) (ht : tag < 5) (hb : g tag ≤ 1000000) : Cg l E yX3_weight cX3_weight 3 (some .int) 1 0 0 [.ref a, .ref r, .int (nI tag)] h (fun v h' => v = some (.int (nI (if 4 * g tag + 1 < 9 then 4 * g tag + 1 else 9))) ∧ h = h') := by
  refine Cg.of (by first | exact plainFor_of_name (by decide) | decide +kernel) [some (.ref a), some (.ref r), some (.int (nI tag))] (Nat.le_of_ble_eq_true rfl) rfl ?_
  intro p e s m args below meth c O
  refine g_bipush O dX3_weight_0 (nI 9) rfl ?_
  refine g_aload_n O dX3_weight_2 rfl (by first | rfl | exact rf_ref _) ?_
  refine g_callU O (n := 0) (c_X4_times l E h) rfl rfl ha dX3_weight_3 (va_cwA 0 O.ts (lw_U q1235 q1237 q1241 q1242 q39 q1243) rfl rfl rfl (O.nw q1236 rfl) (by decide +kernel) (g_rm (by decide) (by decide))) rfl rfl (by first | exact Nat.le_of_ble_eq_true rfl | omega) (by first | exact Nat.le_of_ble_eq_true rfl | omega) (by first | exact Nat.le_of_ble_eq_true rfl | omega) (fun v h1 hp => ?_)
  obtain ⟨rfl, rfl⟩ := hp
  refine g_aload_n O dX3_weight_6 rfl (by first | rfl | exact rf_ref _) ?_
  refine g_iload_n O dX3_weight_7 rfl ?_
  refine g_iald O tag rfl ht (by decide) hr dX3_weight_8 ?_
  rw [hrow tag ht]
  refine g_imul O dX3_weight_9 ?_
  rw [nI_mul]
  refine g_iconst O dX3_weight_10 (nI 1) rfl ?_
  refine g_iadd O dX3_weight_11 ?_
  rw [nI_add]
  refine g_callS O (n := 2) (c_J15_min l E h 9 (4 * g tag + 1) (by decide) (by omega)) rfl dX3_weight_12 q1244 q483 q57 q484 (by decide +kernel) rfl rfl (by first | decide | omega) (by decide) (by first | exact Nat.le_of_ble_eq_true rfl | omega) (by first | exact Nat.le_of_ble_eq_true rfl | omega) (by first | exact Nat.le_of_ble_eq_true rfl | omega) (fun v h1 hp => ?_)
  obtain ⟨rfl, rfl⟩ := hp
  exact g_iret O dX3_weight_15 (by first | exact Nat.le_of_ble_eq_true rfl | omega) (by first | exact Nat.le_of_ble_eq_true rfl | omega) ⟨rfl, rfl⟩
theorem c_X5_times (l : Launch) (E : GE) (h : HV) {a : Nat} : Cg l E yX5_times cX5_times 1 (some .int) 0 0 0 [.ref a] h (fun v h' => v = some (.int (nI 2)) ∧ h = h') := by
  refine Cg.of (by first | exact plainFor_of_name (by decide) | decide +kernel) [some (.ref a)] (Nat.le_of_ble_eq_true rfl) rfl ?_
  intro p e s m args below meth c O
  refine g_iconst O dX5_times_0 (nI 2) rfl ?_
  exact g_iret O dX5_times_1 (by first | exact Nat.le_of_ble_eq_true rfl | omega) (by first | exact Nat.le_of_ble_eq_true rfl | omega) ⟨rfl, rfl⟩
theorem c_X3_weight_E (l : Launch) (E : GE) (h : HV) {la a lr r tag : Nat} {fs : List Value} {row : Nat → Int32} {g : Nat → Nat} (ha : h a = some (la, .inr (2, fs))) (hr : h r = some (lr, cInts E 5 row)) (hrow : ∀ j, j < 5 → row j = nI (g j)) (ht : tag < 5) (hb : g tag ≤ 1000000) : Cg l E yX3_weight cX3_weight 3 (some .int) 1 0 0 [.ref a, .ref r, .int (nI tag)] h (fun v h' => v = some (.int (nI (if 2 * g tag + 1 < 9 then 2 * g tag + 1 else 9))) ∧ h = h') := by
  refine Cg.of (by first | exact plainFor_of_name (by decide) | decide +kernel) [some (.ref a), some (.ref r), some (.int (nI tag))] (Nat.le_of_ble_eq_true rfl) rfl ?_
  intro p e s m args below meth c O
  refine g_bipush O dX3_weight_0 (nI 9) rfl ?_
  refine g_aload_n O dX3_weight_2 rfl (by first | rfl | exact rf_ref _) ?_
  refine g_callU O (n := 0) (c_X5_times l E h) rfl rfl ha dX3_weight_3 (va_cwA 0 O.ts (lw_U q1235 q1237 q1238 q1239 q42 q1240) rfl rfl rfl (O.nw q1236 rfl) (by decide +kernel) (g_rm (by decide) (by decide))) rfl rfl (by first | exact Nat.le_of_ble_eq_true rfl | omega) (by first | exact Nat.le_of_ble_eq_true rfl | omega) (by first | exact Nat.le_of_ble_eq_true rfl | omega) (fun v h1 hp => ?_)
  obtain ⟨rfl, rfl⟩ := hp
  refine g_aload_n O dX3_weight_6 rfl (by first | rfl | exact rf_ref _) ?_
  refine g_iload_n O dX3_weight_7 rfl ?_
  refine g_iald O tag rfl ht (by decide) hr dX3_weight_8 ?_
  rw [hrow tag ht]
  refine g_imul O dX3_weight_9 ?_
  rw [nI_mul]
  refine g_iconst O dX3_weight_10 (nI 1) rfl ?_
  refine g_iadd O dX3_weight_11 ?_
  rw [nI_add]
  refine g_callS O (n := 2) (c_J15_min l E h 9 (2 * g tag + 1) (by decide) (by omega)) rfl dX3_weight_12 q1244 q483 q57 q484 (by decide +kernel) rfl rfl (by first | decide | omega) (by decide) (by first | exact Nat.le_of_ble_eq_true rfl | omega) (by first | exact Nat.le_of_ble_eq_true rfl | omega) (by first | exact Nat.le_of_ble_eq_true rfl | omega) (fun v h1 hp => ?_)
  obtain ⟨rfl, rfl⟩ := hp
  exact g_iret O dX3_weight_15 (by first | exact Nat.le_of_ble_eq_true rfl | omega) (by first | exact Nat.le_of_ble_eq_true rfl | omega) ⟨rfl, rfl⟩
