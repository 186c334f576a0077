set_option maxRecDepth 100000
/-! Trellistag: takeTyped, clear -/
theorem c_X1_takeTyped (l : Launch) (E : GE) (h : HV) {T q : Nat} {x0 x1 x2 x3 x4 x5 x6 x7 : Value} (hT : h T = some (1, .inr (0, [x0, x1, x2, x3, x4, x5, x6, x7, .ref q]))) : Cg l E yX1_takeTyped cX1_takeTyped 2 (some (.object "java/lang/String")) 0 0 0 [.ref T] h (fun v h' => v = some (.ref q) ∧ hup h T (1, .inr (0, [x0, x1, x2, x3, x4, x5, x6, x7, .ref (gc E 0)])) = h') := by
  refine Cg.of (by first | exact plainFor_of_name (by decide) | decide +kernel) [some (.ref T), none] (Nat.le_of_ble_eq_true rfl) rfl ?_
  intro p e s m args below meth c O
  refine g_aload_n O dX1_takeTyped_0 rfl (by first | rfl | exact rf_ref _) ?_
  refine g_get O 0 8 rfl hT dX1_takeTyped_1 q188 rfl (by decide) rfl rfl ?_
  refine g_astore_n O rfl dX1_takeTyped_4 (by first | rfl | exact rf_ref _) (by first | rfl | exact rf_lst ⟨rfl, rfl⟩) ?_
  refine g_aload_n O dX1_takeTyped_5 rfl (by first | rfl | exact rf_ref _) ?_
  refine g_ldcE O dX1_takeTyped_6 rfl ?_
  refine g_put O 0 8 rfl hT (by decide) dX1_takeTyped_8 q188 rfl (by decide) rfl rfl rfl (by first | exact Nat.le_of_ble_eq_true rfl | omega) ?_
  refine g_aload_n O dX1_takeTyped_11 rfl (by first | rfl | exact rf_ref _) ?_
  exact g_aret O dX1_takeTyped_12 (by first | exact Or.inl ⟨_, rfl⟩ | exact Or.inr ⟨_, rfl⟩) (by first | exact Or.inl rfl | exact Or.inr ⟨_, rfl⟩) (by first | exact Nat.le_of_ble_eq_true rfl | omega) (by first | exact Nat.le_of_ble_eq_true rfl | omega) ⟨rfl, rfl⟩
theorem c_X1_clear (l : Launch) (E : GE) (h : HV) {T ase cap : Nat} {li : List Nat} {x0 x1 x2 x3 x4 x5 x7 x8 : Value} (hT : h T = some (1, .inr (0, [x0, x1, x2, x3, x4, x5, .ref ase, x7, x8]))) (hA : AL E h 12 ase cap li) : Cg l E yX1_clear cX1_clear 2 (some .int) 3 0 0 [.ref T] h (fun v h' => v = some (.int (nI li.length)) ∧ AL E h' 12 ase cap [] ∧ Fr [12] h h') := by
  obtain ⟨mo, arr, hc0⟩ := hA.cell
  have hlen := hA.len
  refine Cg.of (by first | exact plainFor_of_name (by decide) | decide +kernel) [some (.ref T), none] (Nat.le_of_ble_eq_true rfl) rfl ?_
  intro p e s m args below meth c O
  refine g_aload_n O dX1_clear_0 rfl (by first | rfl | exact rf_ref _) ?_
  refine g_get O 0 6 rfl hT dX1_clear_1 q185 rfl (by decide) rfl rfl ?_
  refine g_callF O (n := 0) (x := ⟨"java/util/List", "size", "()I"⟩) (c_J4_size l E h hA) rfl rfl hc0 dX1_clear_4 q214 q220 q218 q45 q222 q216 q221 q219 q217 (O.k.2.2.2.2.2.2.2.1 _ (by decide)) (by decide +kernel) rfl rfl (by first | decide | omega) (by decide) (by first | exact Nat.le_of_ble_eq_true rfl | omega) (by first | exact Nat.le_of_ble_eq_true rfl | omega) (by first | exact Nat.le_of_ble_eq_true rfl | omega) (fun v h1 hp => ?_)
  obtain ⟨rfl, rfl⟩ := hp
  have loop : ∀ n (k : List Nat) hh, k.length = n → n ≤ 100000 → AL E hh 12 ase cap k → Fr [12] h hh → Wg p l e (rmG 3 0 0) s m args below meth c E (MQ below (gQ E (fun v h' => v = some (.int (nI li.length)) ∧ AL E h' 12 ase cap [] ∧ Fr [12] h h')) args s 0 0 (gA E)) 10 [some (.ref T), some (.int (nI li.length))] [] hh 0 0 := by
    intro n
    induction n with
    | zero =>
      intro k hh hk hn hA hF
      obtain rfl : k = [] := List.length_eq_zero_iff.mp hk
      obtain ⟨mo, arr, hc0⟩ := hA.cell
      refine g_aload_n O dX1_clear_10 rfl (by first | rfl | exact rf_ref _) ?_
      refine g_get O 0 6 rfl (hF _ _ hT (show 1 ∉ [12] by decide)) dX1_clear_11 q185 rfl (by decide) rfl rfl ?_
      refine g_callF O (n := 0) (x := ⟨"java/util/List", "isEmpty", "()Z"⟩) (c_J4_isEmpty l E hh hA) rfl rfl hc0 dX1_clear_14 q224 q229 q227 q45 q231 q226 q230 q228 q217 (O.k.2.2.2.2.2.2.2.1 _ (by decide)) (by decide +kernel) rfl rfl (by first | decide | omega) (by decide) (by first | exact Nat.le_of_ble_eq_true rfl | omega) (by first | exact Nat.le_of_ble_eq_true rfl | omega) (by first | exact Nat.le_of_ble_eq_true rfl | omega) (fun v h1 hp => ?_)
      obtain ⟨rfl, rfl⟩ := hp
      refine g_if_ne O 46 dX1_clear_19 (by decide) (fun hc => ?_) (fun hc => ?_)
      · refine g_iload_n O dX1_clear_46 rfl ?_
        exact g_iret O dX1_clear_47 (by first | exact Nat.le_of_ble_eq_true rfl | omega) (by first | exact Nat.le_of_ble_eq_true rfl | omega) ⟨rfl, hA, hF⟩
      · exact absurd hc (by decide)
    | succ n ih =>
      intro k hh hk hn hA hF
      obtain ⟨k', y, rfl⟩ : ∃ k' y, k = k' ++ [y] := ⟨k.dropLast, k.getLast (by intro z; rw [z] at hk; cases hk), (List.dropLast_concat_getLast _).symm⟩
      rw [List.length_append] at hk
      have hk' : k'.length = n := by have : k'.length + 1 = n + 1 := hk; omega
      obtain ⟨mo, arr, hc0⟩ := hA.cell
      have hTh := hF _ _ hT (show 1 ∉ [12] by decide)
      refine g_aload_n O dX1_clear_10 rfl (by first | rfl | exact rf_ref _) ?_
      refine g_get O 0 6 rfl hTh dX1_clear_11 q185 rfl (by decide) rfl rfl ?_
      refine g_callF O (n := 0) (x := ⟨"java/util/List", "isEmpty", "()Z"⟩) (c_J4_isEmpty l E hh hA) rfl rfl hc0 dX1_clear_14 q224 q229 q227 q45 q231 q226 q230 q228 q217 (O.k.2.2.2.2.2.2.2.1 _ (by decide)) (by decide +kernel) rfl rfl (by first | decide | omega) (by decide) (by first | exact Nat.le_of_ble_eq_true rfl | omega) (by first | exact Nat.le_of_ble_eq_true rfl | omega) (by first | exact Nat.le_of_ble_eq_true rfl | omega) (fun v h1 hp => ?_)
      obtain ⟨rfl, rfl⟩ := hp
      have hne : ¬ (k' ++ [y]).length = 0 := by rw [List.length_append]; simp
      rw [if_neg hne]
      refine g_if_ne O 46 dX1_clear_19 (by decide) (fun hc => ?_) (fun hc => ?_)
      · exact absurd nI_0 hc
      · refine g_aload_n O dX1_clear_22 rfl (by first | rfl | exact rf_ref _) ?_
        refine g_get O 0 6 rfl hTh dX1_clear_23 q185 rfl (by decide) rfl rfl ?_
        refine g_aload_n O dX1_clear_26 rfl (by first | rfl | exact rf_ref _) ?_
        refine g_get O 0 6 rfl hTh dX1_clear_27 q185 rfl (by decide) rfl rfl ?_
        refine g_callF O (n := 0) (x := ⟨"java/util/List", "size", "()I"⟩) (c_J4_size l E hh hA) rfl rfl hc0 dX1_clear_30 q214 q220 q218 q45 q222 q216 q221 q219 q217 (O.k.2.2.2.2.2.2.2.1 _ (by decide)) (by decide +kernel) rfl rfl (by first | decide | omega) (by decide) (by first | exact Nat.le_of_ble_eq_true rfl | omega) (by first | exact Nat.le_of_ble_eq_true rfl | omega) (by first | exact Nat.le_of_ble_eq_true rfl | omega) (fun v h1 hp => ?_)
        obtain ⟨rfl, rfl⟩ := hp
        have e1 : (k' ++ [y]).length = k'.length + 1 := by rw [List.length_append]; rfl
        rw [e1]
        refine g_iconst O dX1_clear_35 (nI 1) rfl ?_
        refine g_isub O dX1_clear_36 ?_
        rw [pk_sub (by omega : 1 ≤ k'.length + 1), show k'.length + 1 - 1 = k'.length by omega]
        refine g_callF O (n := 1) (x := ⟨"java/util/List", "remove", "(I)Ljava/lang/Object;"⟩) (c_J4_remove l E hh (by decide) hA) rfl rfl hc0 dX1_clear_37 q233 q238 q236 q45 q240 q235 q239 q237 q217 (O.k.2.2.2.2.2.2.2.1 _ (by decide)) (by decide +kernel) rfl rfl (by first | decide | omega) (by decide) (by first | exact Nat.le_of_ble_eq_true rfl | omega) (by first | exact Nat.le_of_ble_eq_true rfl | omega) (by first | exact Nat.le_of_ble_eq_true rfl | omega) (fun v h1 hp => ?_)
        obtain ⟨rfl, hA2, F2⟩ := hp
        refine g_pop O dX1_clear_42 rfl ?_
        refine g_goto O 10 dX1_clear_43 (by decide) ?_
        exact ih k' _ hk' (by omega) hA2 (hF.tr F2)
  refine g_istore_n O rfl dX1_clear_9 rfl ?_
  exact loop li.length li h rfl (by omega) hA Fr.rf
