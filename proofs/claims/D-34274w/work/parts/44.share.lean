set_option maxRecDepth 100000
/-! Trellistag.shareOf -/
theorem c_X1_shareOf (l : Launch) (E : GE) (h : HV) {a lab t : Nat} {f : Nat → Nat} (hV : VL E h lab a f) (ht : t < 5) (h0 : 0 < tot f 5) (hb : tot f 5 < 2 ^ 50) : Cg l E yX1_shareOf cX1_shareOf 9 (some .int) 0 0 0 [.ref a, .int (nI t)] h (fun v h' => v = some (.int (nI (1000 * f t / tot f 5))) ∧ h = h') := by
  have hft : f t ≤ tot f 5 := tot_at ht
  obtain ⟨row, m1, m2⟩ := hV
  refine Cg.of (by first | exact plainFor_of_name (by decide) | decide +kernel) [some (.ref a), some (.int (nI t)), none, none, none, none, none, none, none] (Nat.le_of_ble_eq_true rfl) rfl ?_
  intro p e s m args below meth c O
  have loop : ∀ d j, j + d = 5 → Wg p l e (rmG 0 0 0) s m args below meth c E (MQ below (gQ E (fun v h' => v = some (.int (nI (1000 * f t / tot f 5))) ∧ h = h')) args s 0 0 (gA E)) 13 [some (.ref a), some (.int (nI t)), some (.long (lN (tot f j))), none, some (.ref a), some (.int (nI 5)), some (.int (nI j)), none, none] [] h 0 0 := by
    intro d
    induction d with
    | zero =>
      intro j hj
      obtain rfl : j = 5 := by omega
      refine g_iload O dX1_shareOf_13 rfl ?_
      refine g_iload O dX1_shareOf_15 rfl ?_
      refine g_icmp_ge O 38 dX1_shareOf_17 (by decide) (fun hc => ?_) (fun hc => ?_)
      · refine g_ldc2 O dX1_shareOf_38 q1546 ?_
        refine g_aload_n O dX1_shareOf_41 rfl (by first | rfl | exact rf_ref _) ?_
        refine g_iload_n O dX1_shareOf_42 rfl ?_
        refine g_lald O t rfl ht (by decide) m1 dX1_shareOf_43 ?_
        rw [m2 t ht]
        refine g_lmul O dX1_shareOf_44 ?_
        refine Wg.S [.long (lN (1000 * f t))] (by rw [← lN_mul]; rfl) ?_
        refine g_lload_n O dX1_shareOf_45 rfl ?_
        refine g_ldiv O (fun z => absurd ((pk_lEQ (a := tot f 5) (b := 0) (by omega) (by decide)).mp z) (by omega)) dX1_shareOf_46 ?_
        rw [pk_lDiv (by omega) h0 (by omega)]
        refine g_l2i O dX1_shareOf_47 ?_
        rw [lN_i]
        exact g_iret O dX1_shareOf_48 (by first | exact Nat.le_of_ble_eq_true rfl | omega) (by first | exact Nat.le_of_ble_eq_true rfl | omega) ⟨rfl, rfl⟩
      · exact absurd (Int32.le_refl _) hc
    | succ d ih =>
      intro j hj
      refine g_iload O dX1_shareOf_13 rfl ?_
      refine g_iload O dX1_shareOf_15 rfl ?_
      refine g_icmp_ge O 38 dX1_shareOf_17 (by decide) (fun hc => ?_) (fun hc => ?_)
      · exact absurd ((nI_leI (by decide) (by omega)).mp hc) (by omega)
      · refine g_aload O dX1_shareOf_20 rfl (by first | rfl | exact rf_ref _) ?_
        refine g_iload O dX1_shareOf_22 rfl ?_
        refine g_lald O j rfl (by omega) (by decide) m1 dX1_shareOf_24 ?_
        rw [m2 j (by omega)]
        refine g_lstore O dX1_shareOf_25 rfl ?_
        refine g_lload_n O dX1_shareOf_27 rfl ?_
        refine g_lload O dX1_shareOf_28 rfl ?_
        refine g_ladd O dX1_shareOf_30 ?_
        rw [lN_add]
        refine g_lstore_n O rfl dX1_shareOf_31 rfl ?_
        refine g_iinc O dX1_shareOf_32 rfl (by first | rfl | exact rf_lok rfl) ?_
        refine g_goto O 13 dX1_shareOf_35 (by decide) ?_
        refine Wg.fg 7 ?_
        refine Wg.L [some (.ref a), some (.int (nI t)), some (.long (lN (tot f (j + 1)))), none, some (.ref a), some (.int (nI 5)), some (.int (nI (j + 1))), none, none] (by rw [← nI_1 j]; rfl) ?_
        exact ih (j + 1) (by omega)
  refine g_lconst O dX1_shareOf_0 (lN 0) rfl ?_
  refine g_lstore_n O rfl dX1_shareOf_1 rfl ?_
  refine g_aload_n O dX1_shareOf_2 rfl (by first | rfl | exact rf_ref _) ?_
  refine g_astore O dX1_shareOf_3 (by first | rfl | exact rf_ref _) (by first | rfl | exact rf_lst ⟨rfl, rfl⟩) ?_
  refine g_aload O dX1_shareOf_5 rfl (by first | rfl | exact rf_ref _) ?_
  refine g_alen O 1 rfl m1 dX1_shareOf_7 ?_
  refine g_istore O dX1_shareOf_8 rfl ?_
  refine g_iconst O dX1_shareOf_10 (nI 0) rfl ?_
  refine g_istore O dX1_shareOf_11 rfl ?_
  exact loop 5 0 (by omega)
