set_option maxRecDepth 100000
/-! Trellistag.texts -/
/-- how many of the first n count -/
def cnt1 (b : Nat → Bool) : Nat → Nat
  | 0 => 0
  | n + 1 => cnt1 b n + (if b n then 1 else 0)
theorem c_X1_texts (l : Launch) (E : GE) (h : HV) {T atx cap : Nat} {li : List Nat} {b : Nat → Bool} {x0 x1 x2 x3 x5 x6 x7 x8 : Value} (hT : h T = some (1, .inr (0, [x0, x1, x2, x3, .ref atx, x5, x6, x7, x8]))) (hA : AL E h 10 atx cap li) (hb : ∀ (i q : Nat), li[i]? = some q → ∃ u : Value, h q = some (15, .inr (13, [u, .int (bI (b i))]))) : Cg l E yX1_texts cX1_texts 4 (some .int) 4 1 4 [.ref T] h (fun v h' => v = some (.int (nI (cnt1 b li.length))) ∧ Fr [52] h h') := by
  obtain ⟨mo, arr, hc0⟩ := hA.cell
  have hlen := hA.len
  refine Cg.of (by first | exact plainFor_of_name (by decide) | decide +kernel) [some (.ref T), none, none, none] (Nat.le_of_ble_eq_true rfl) rfl ?_
  intro p e s m args below meth c O
  refine g_iconst O dX1_texts_0 (nI 0) rfl ?_
  refine g_istore_n O rfl dX1_texts_1 rfl ?_
  refine g_aload_n O dX1_texts_2 rfl (by first | rfl | exact rf_ref _) ?_
  refine g_get O 0 4 rfl hT dX1_texts_3 q182 rfl (by decide) rfl rfl ?_
  refine g_callF O (n := 0) (x := ⟨"java/util/List", "iterator", "()Ljava/util/Iterator;"⟩) (c_J4_iterator l E h 52 (by decide) hA) rfl rfl hc0 dX1_texts_6 q259 q264 q262 q45 q266 q261 q265 q263 q217 (O.k.2.2.2.2.2.2.2.1 _ (by decide)) (by decide +kernel) rfl rfl (by first | decide | omega) (by decide) (by first | exact Nat.le_of_ble_eq_true rfl | omega) (by first | exact Nat.le_of_ble_eq_true rfl | omega) (by first | exact Nat.le_of_ble_eq_true rfl | omega) (fun v h1 hp => ?_)
  obtain ⟨it, hit, rfl, hI, F1⟩ := hp
  have loop : ∀ d i hh, i + d = li.length → IT E hh 10 atx cap li 52 it i → Fr [52] h hh → Wg p l e (rmG 4 1 4) s m args below meth c E (MQ below (gQ E (fun v h' => v = some (.int (nI (cnt1 b li.length))) ∧ Fr [52] h h')) args s 1 4 (gA E)) 12 [some (.ref T), some (.int (nI (cnt1 b i))), some (.ref it), none] [] hh 1 4 := by
    intro d
    induction d with
    | zero =>
      intro i hh hi hI hF
      obtain rfl : i = li.length := by omega
      have hI' := hI
      obtain ⟨mo2, lr2, arr2, la2, g2, hic, -⟩ := hI'
      refine g_aload_n O dX1_texts_12 rfl (by first | rfl | exact rf_ref _) ?_
      refine g_callF O (n := 0) (x := ⟨"java/util/Iterator", "hasNext", "()Z"⟩) (c_J23_hasNext l E hh hI) rfl rfl hic dX1_texts_13 q287 q293 q291 q69 q295 q289 q294 q292 q290 (O.k.2.2.2.2.2.2.2.1 _ (by decide)) (by decide +kernel) rfl rfl (by first | decide | omega) (by decide) (by first | exact Nat.le_of_ble_eq_true rfl | omega) (by first | exact Nat.le_of_ble_eq_true rfl | omega) (by first | exact Nat.le_of_ble_eq_true rfl | omega) (fun v h1 hp => ?_)
      obtain ⟨rfl, rfl⟩ := hp
      rw [if_neg (Nat.lt_irrefl _)]
      refine g_if_eq O 49 dX1_texts_18 (by decide) (fun hc => ?_) (fun hc => ?_)
      · refine g_iload_n O dX1_texts_49 rfl ?_
        exact g_iret O dX1_texts_50 (by first | exact Nat.le_of_ble_eq_true rfl | omega) (by first | exact Nat.le_of_ble_eq_true rfl | omega) ⟨rfl, hF⟩
      · exact absurd nI_0 hc
    | succ d ih =>
      intro i hh hi hI hF
      have hI' := hI
      obtain ⟨mo2, lr2, arr2, la2, g2, hic, -⟩ := hI'
      have hli : li[i]? = some li[i] := List.getElem?_eq_getElem (by omega)
      obtain ⟨u, hu⟩ := hb i _ hli
      refine g_aload_n O dX1_texts_12 rfl (by first | rfl | exact rf_ref _) ?_
      refine g_callF O (n := 0) (x := ⟨"java/util/Iterator", "hasNext", "()Z"⟩) (c_J23_hasNext l E hh hI) rfl rfl hic dX1_texts_13 q287 q293 q291 q69 q295 q289 q294 q292 q290 (O.k.2.2.2.2.2.2.2.1 _ (by decide)) (by decide +kernel) rfl rfl (by first | decide | omega) (by decide) (by first | exact Nat.le_of_ble_eq_true rfl | omega) (by first | exact Nat.le_of_ble_eq_true rfl | omega) (by first | exact Nat.le_of_ble_eq_true rfl | omega) (fun v h1 hp => ?_)
      obtain ⟨rfl, rfl⟩ := hp
      rw [if_pos (by omega : i < li.length)]
      refine g_if_eq O 49 dX1_texts_18 (by decide) (fun hc => ?_) (fun hc => ?_)
      · exact absurd hc (by decide)
      · refine g_aload_n O dX1_texts_21 rfl (by first | rfl | exact rf_ref _) ?_
        refine g_callF O (n := 0) (x := ⟨"java/util/Iterator", "next", "()Ljava/lang/Object;"⟩) (c_J23_next l E hh (by decide) hI hli) rfl rfl hic dX1_texts_22 q297 q302 q300 q69 q304 q299 q303 q301 q290 (O.k.2.2.2.2.2.2.2.1 _ (by decide)) (by decide +kernel) rfl rfl (by first | decide | omega) (by decide) (by first | exact Nat.le_of_ble_eq_true rfl | omega) (by first | exact Nat.le_of_ble_eq_true rfl | omega) (by first | exact Nat.le_of_ble_eq_true rfl | omega) (fun v h2 hp => ?_)
        obtain ⟨rfl, hI2, hE⟩ := hp
        have F2 : Fr [52] hh h2 := hE.fr (fun y hy k hk => by
          rw [List.mem_singleton.mp hy, hic] at hk
          cases hk
          simp)
        have hu2 := (hF.tr F2) _ _ hu (show 15 ∉ [52] by decide)
        refine g_castS O rfl hu2 q309 dX1_texts_27 ?_
        refine g_astore_n O rfl dX1_texts_30 (by first | rfl | exact rf_ref _) (by first | rfl | exact rf_lst ⟨rfl, rfl⟩) ?_
        refine g_iload_n O dX1_texts_31 rfl ?_
        refine g_aload_n O dX1_texts_32 rfl (by first | rfl | exact rf_ref _) ?_
        refine g_get O 13 1 rfl hu2 dX1_texts_33 q812 rfl (by decide) rfl rfl ?_
        have hnx : cnt1 b (i + 1) = cnt1 b i + (if b i then 1 else 0) := rfl
        cases hbi : b i
        · rw [hbi] at hnx
          refine g_if_eq O 43 dX1_texts_36 (by decide) (fun hc2 => ?_) (fun hc2 => ?_)
          · refine g_iconst O dX1_texts_43 (nI 0) rfl ?_
            refine g_iadd O dX1_texts_44 ?_
            rw [nI_add]
            refine g_istore_n O rfl dX1_texts_45 rfl ?_
            refine g_goto O 12 dX1_texts_46 (by decide) ?_
            refine Wg.fg 3 ?_
            refine Wg.L [some (.ref T), some (.int (nI (cnt1 b (i + 1)))), some (.ref it), none] (by rw [hnx]; rfl) ?_
            exact ih (i + 1) h2 (by omega) hI2 (hF.tr F2)
          · exact absurd rfl hc2
        · rw [hbi] at hnx
          refine g_if_eq O 43 dX1_texts_36 (by decide) (fun hc2 => ?_) (fun hc2 => ?_)
          · exact absurd hc2 (by decide)
          · refine g_iconst O dX1_texts_39 (nI 1) rfl ?_
            refine g_goto O 44 dX1_texts_40 (by decide) ?_
            refine g_iadd O dX1_texts_44 ?_
            rw [nI_add]
            refine g_istore_n O rfl dX1_texts_45 rfl ?_
            refine g_goto O 12 dX1_texts_46 (by decide) ?_
            refine Wg.fg 3 ?_
            refine Wg.L [some (.ref T), some (.int (nI (cnt1 b (i + 1)))), some (.ref it), none] (by rw [hnx]; rfl) ?_
            exact ih (i + 1) h2 (by omega) hI2 (hF.tr F2)
  refine g_astore_n O rfl dX1_texts_11 (by first | rfl | exact rf_ref _) (by first | rfl | exact rf_lst ⟨rfl, rfl⟩) ?_
  exact loop li.length 0 h1 (by omega) hI (F1.mono (fun x hx => by cases hx))
