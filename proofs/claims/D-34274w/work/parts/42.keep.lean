set_option maxRecDepth 100000
/-! All.keep (printed by tools/gen_keep.py) -/
theorem PT.any {E : GE} {h : HV} {lp x w : Nat} {ts : List Nat} (P : PT E h lp x ts w) : gAny h x := by
  obtain ⟨arr, o, p1⟩ := P.cell
  exact ⟨lp, 9, _, _, RX11, TX11, p1, rfl, q1804⟩
theorem AL.cell {E : GE} {h : HV} {lab a cap : Nat} {l : List Nat} (A : AL E h lab a cap l) : ∃ mo arr, h a = some (lab, cList mo arr l.length) := by
  obtain ⟨mo, arr, la, g, z, -⟩ := A
  exact ⟨mo, arr, z⟩
/-- the first n of f -/
def tl (f : Nat → Nat) (n : Nat) : List Nat := (List.range n).map f
theorem tl_len {f : Nat → Nat} {n : Nat} : (tl f n).length = n := by unfold tl; rw [List.length_map, List.length_range]
theorem tl_at {f : Nat → Nat} {n j t : Nat} (h : (tl f n)[j]? = some t) : j < n ∧ f j = t := by
  have hj : j < n := by rw [← tl_len (f := f) (n := n)]; exact (List.getElem?_eq_some_iff.mp h).1
  unfold tl at h
  rw [List.getElem?_map, List.getElem?_range hj] at h
  exact ⟨hj, Option.some.inj h⟩
theorem c_X12_keep (l : Launch) (E : GE) (h : HV) {x tr pl n w cap : Nat} {tsf sf : Nat → Nat} {best : List (List Nat × Nat)} (gc gs : Nat) (hG : GC E h) (A : AP E h x tr pl n tsf sf cap best) (hn : n ≤ 5) (htag : ∀ j, j < n → tsf j < 5) (hw : w < 2 ^ 63) (hbw : ∀ b ∈ best, b.2 < 2 ^ 63) (hlen : best.length ≤ 10) (hcap : cap ≤ 60000) (hb : best.length = cap → 1 ≤ gc ∧ ncap cap ≤ gs) : Cg l E yX12_keep cX12_keep 5 none 7 (2 + gc) (8 + gs) [.ref x, .long (lN w)] h (fun v h' => v = none ∧ (∃ cap', AP E h' x tr pl n tsf sf cap' (kp best (tl tsf n, w)) ∧ (cap' = cap ∨ (best.length = cap ∧ cap' = ncap cap))) ∧ Fr [32] h h') := by
  have A0 := A
  obtain ⟨aT, aB, aS, li, c1, c2, c3, c4, c5, c6⟩ := A
  obtain ⟨mo, arr0, c3c⟩ := c3.cell
  obtain ⟨row, v1, v2⟩ := c2
  refine Cg.of (by first | exact plainFor_of_name (by decide) | decide +kernel) [some (.ref x), some (.long (lN w)), none, none, none] (Nat.le_of_ble_eq_true rfl) rfl ?_
  intro p e s m args below meth c O
  -- behind the insertion
  have fin : ∀ at0, at0 = posN best w best.length → Wg p l e (rmG 7 (2 + gc) (8 + gs)) s m args below meth c E (MQ below (gQ E (fun v h' => v = none ∧ (∃ cap', AP E h' x tr pl n tsf sf cap' (kp best (tl tsf n, w)) ∧ (cap' = cap ∨ (best.length = cap ∧ cap' = ncap cap))) ∧ Fr [32] h h')) args s (2 + gc) (8 + gs) (gA E)) 43 [some (.ref x), some (.long (lN w)), none, some (.int (nI at0)), none] [] h (0) (0) := by
    intro at0 hat
    have hle : at0 ≤ best.length := by rw [hat]; exact posN_le _
    refine g_iload_n O dX12_keep_43 rfl ?_
    refine g_bipush O dX12_keep_44 (nI 10) rfl ?_
    refine g_icmp_ge O 94 dX12_keep_46 (by decide) (fun hc => ?_) (fun hc => ?_)
    · have h10 : 10 ≤ at0 := (nI_leI (by decide) (by omega)).mp hc
      have hk : kp best (tl tsf n, w) = best := by
        unfold kp
        exact if_neg (by show ¬ posN best w best.length < 10; omega)
      refine g_aload_n O dX12_keep_94 rfl (by first | rfl | exact rf_ref _) ?_
      refine g_get O 11 2 rfl c1 dX12_keep_95 q1455 rfl (by decide) rfl rfl ?_
      refine g_callF O (n := 0) (x := ⟨"java/util/List", "size", "()I"⟩) (c_J4_size l E h c3) rfl rfl c3c dX12_keep_98 q1480 q220 q218 q45 q222 q216 q221 q219 q217 (O.k.2.2.2.2.2.2.2.1 _ (by decide)) (by decide +kernel) rfl rfl (by first | decide | omega) (by decide) (by first | exact Nat.le_of_ble_eq_true rfl | omega) (by first | exact Nat.le_of_ble_eq_true rfl | omega) (by first | exact Nat.le_of_ble_eq_true rfl | omega) (fun v h1 hp => ?_)
      obtain ⟨rfl, rfl⟩ := hp
      rw [c4]
      refine g_bipush O dX12_keep_103 (nI 10) rfl ?_
      refine g_icmp_le O 120 dX12_keep_105 (by decide) (fun hc2 => ?_) (fun hc2 => ?_)
      · exact g_vret O dX12_keep_120 (by first | exact Nat.le_of_ble_eq_true rfl | omega) (by first | exact Nat.le_of_ble_eq_true rfl | omega) ⟨rfl, ⟨cap, by rw [hk]; exact A0, Or.inl rfl⟩, Fr.rf⟩
      · exact absurd ((nI_leI (by omega) (by decide)).mpr hlen) hc2
    · have h10 : at0 < 10 := by
        rcases Nat.lt_or_ge at0 10 with z | z
        · exact z
        · exact absurd ((nI_leI (by decide) (by omega)).mpr z) hc
      have hk : kp best (tl tsf n, w) = (best.take at0 ++ (tl tsf n, w) :: best.drop at0).take 10 := by
        unfold kp
        rw [hat]
        exact if_pos (by show posN best w best.length < 10; omega)
      refine g_aload_n O dX12_keep_49 rfl (by first | rfl | exact rf_ref _) ?_
      refine g_get O 11 1 rfl c1 dX12_keep_50 q1454 rfl (by decide) rfl rfl ?_
      refine g_alen O 0 rfl v1 dX12_keep_53 ?_
      refine g_newa O 33 0 n (n, .inl (fun _ => 0)) dX12_keep_54 rfl rfl rfl (by omega) q176 (by first | exact Nat.le_of_ble_eq_true rfl | omega) (by first | exact Nat.le_of_ble_eq_true rfl | omega) (fun ar har => ?_)
      refine Wg.abs (fun h1 e1 => ?_)
      have F1 : Fr [] h h1 := by rw [← e1]; exact Fr.rf.new har
      have ar1 : h1 ar = some (33, cInts E n (fun _ => 0)) := by rw [← e1]; exact hup_self
      have K1 : ∀ b c, h b = some c → h1 b = some c := fun b c e => F1 b c e (by simp)
      have Kar : ∀ b c, h b = some c → b ≠ ar := fun b c e => hv_neN e har
      clear e1
      refine g_astore O dX12_keep_56 (by first | rfl | exact rf_ref _) (by first | rfl | exact rf_lst ⟨rfl, rfl⟩) ?_
      refine g_aload_n O dX12_keep_58 rfl (by first | rfl | exact rf_ref _) ?_
      refine g_get O 11 1 rfl (K1 _ _ c1) dX12_keep_59 q1454 rfl (by decide) rfl rfl ?_
      refine g_iconst O dX12_keep_62 (nI 0) rfl ?_
      refine g_aload O dX12_keep_63 rfl (by first | rfl | exact rf_ref _) ?_
      refine g_iconst O dX12_keep_65 (nI 0) rfl ?_
      refine g_aload_n O dX12_keep_66 rfl (by first | rfl | exact rf_ref _) ?_
      refine g_get O 11 1 rfl (K1 _ _ c1) dX12_keep_67 q1454 rfl (by decide) rfl rfl ?_
      refine g_alen O 0 rfl (K1 _ _ v1) dX12_keep_70 ?_
      refine g_acopyI O 0 0 n rfl rfl rfl (K1 _ _ v1) (by decide) ar1 (by decide) (by omega) (by omega) (by omega) (by omega) q1484 rfl (by decide) (Nat.le_of_ble_eq_true rfl) dX12_keep_71 ?_
      refine Wg.abs (fun h2 e2 => ?_)
      have K2 : ∀ b c, h b = some c → h2 b = some c := fun b c e => by rw [← e2]; exact (hup_ne (Kar b c e)).trans (K1 b c e)
      have ar2 : ∃ row2, h2 ar = some (33, cInts E n row2) ∧ ∀ j, j < n → row2 j = nI (tsf j) := by
        refine ⟨_, by rw [← e2]; exact hup_self, fun j hj => ?_⟩
        unfold va_cpy
        rw [if_pos ⟨Nat.zero_le _, by omega⟩, show 0 + (j - 0) = j by omega]
        exact v2 j hj
      obtain ⟨row2, ar2, hrow2⟩ := ar2
      clear e2
      refine g_aload_n O dX12_keep_74 rfl (by first | rfl | exact rf_ref _) ?_
      refine g_get O 11 2 rfl (K2 _ _ c1) dX12_keep_75 q1455 rfl (by decide) rfl rfl ?_
      refine g_iload_n O dX12_keep_78 rfl ?_
      refine g_new O 33 9 [.null, .long 0, .null] rfl dX12_keep_79 q1483 q1357 q79 rfl (by first | exact Nat.le_of_ble_eq_true rfl | omega) (by first | exact Nat.le_of_ble_eq_true rfl | omega) (fun pt hpt => ?_)
      refine g_dup O dX12_keep_82 rfl ?_
      refine g_aload O dX12_keep_83 rfl (by first | rfl | exact rf_ref _) ?_
      refine g_lload_n O dX12_keep_85 rfl ?_
      refine g_callI O (n := 2) (c_X11_init l E _ (by decide) hup_self) rfl dX12_keep_86 q1485 q1359 q79 q1360 rfl (by decide +kernel) rfl rfl (by first | decide | omega) (by decide) (by first | exact Nat.le_of_ble_eq_true rfl | omega) (by first | exact Nat.le_of_ble_eq_true rfl | omega) (by first | exact Nat.le_of_ble_eq_true rfl | omega) (fun v h1 hp => ?_)
      obtain ⟨rfl, rfl⟩ := hp
      refine Wg.H _ hup_hup ?_
      refine Wg.abs (fun h3 e3 => ?_)
      have K3 : Fr [] h2 h3 := by rw [← e3]; exact Fr.rf.new hpt
      have p3 : h3 pt = some (33, .inr (9, [.ref ar, .long (lN w), .null])) := by rw [← e3]; exact hup_self
      clear e3
      have K : Fr [] h h3 := fun b c e _ => K3 b c (K2 b c e) (by simp)
      have P : PT E h3 33 pt (tl tsf n) w := by
        refine ⟨ar, row2, none, p3, ?_, fun j t e => ?_, by rw [tl_len]; exact hn, fun q e => by cases e⟩
        · rw [tl_len]; exact K3 _ _ ar2 (by simp)
        · obtain ⟨hj, rfl⟩ := tl_at e
          exact ⟨htag j hj, hrow2 j hj⟩
      have c3' := c3.fr K (by simp) (by simp)
      obtain ⟨mo3, arr3, c3c'⟩ := c3'.cell
      have hels : ∀ y ∈ li, gAny h3 y := fun y hy => by
        obtain ⟨i, hi, rfl⟩ := List.getElem_of_mem hy
        obtain ⟨q, e4, e5⟩ := c5 i best[i] (List.getElem?_eq_getElem (by omega))
        rw [List.getElem?_eq_getElem hi] at e4
        cases e4
        exact (e5.fr K (by simp) (by simp)).any
      refine g_callF O (n := 2) (x := ⟨"java/util/List", "add", "(ILjava/lang/Object;)V"⟩) (c_J4_add_3 l E h3 gc gs (by rw [c4]; exact hb) hcap (by omega : at0 ≤ li.length) (hG.fr K (by simp)) c3' (by decide) hels P.any) rfl rfl c3c' dX12_keep_89 q1487 q1492 q1490 q45 q1494 q1489 q1493 q1491 q217 (O.k.2.2.2.2.2.2.2.1 _ (by decide)) (by decide +kernel) rfl rfl (by first | decide | omega) (by decide) (by first | exact Nat.le_of_ble_eq_true rfl | omega) (by first | exact Nat.le_of_ble_eq_true rfl | omega) (by first | exact Nat.le_of_ble_eq_true rfl | omega) (fun v h4 hp => ?_)
      obtain ⟨rfl, A4, F4⟩ := hp
      have c14 := F4 _ _ (K _ _ c1 (by simp)) (show 30 ∉ [32] by decide)
      have K4 : Fr [32] h h4 := (K.mono (fun x hx => by cases hx)).tr F4
      have hll := lins_len li at0 pt (by omega)
      -- the list's paths
      have pts : ∀ (i : Nat) (b : List Nat × Nat), (best.take at0 ++ (tl tsf n, w) :: best.drop at0)[i]? = some b → ∃ q, (lins li at0 pt)[i]? = some q ∧ PT E h4 33 q b.1 b.2 := by
        intro i b e
        unfold lins
        have l1 : (best.take at0).length = at0 := by rw [List.length_take]; omega
        have l2 : (li.take at0).length = at0 := by rw [List.length_take]; omega
        rcases Nat.lt_or_ge i at0 with z | z
        · rw [List.getElem?_append_left (by omega), List.getElem?_take_of_lt z] at e
          rw [List.getElem?_append_left (by omega), List.getElem?_take_of_lt z]
          obtain ⟨q, e1, e2⟩ := c5 i b e
          exact ⟨q, e1, e2.fr K4 (by decide) (by decide)⟩
        · rw [List.getElem?_append_right (by omega), l1] at e
          rw [List.getElem?_append_right (by omega), l2]
          rcases Nat.eq_zero_or_pos (i - at0) with y | y
          · rw [y] at e ⊢
            cases e
            exact ⟨pt, rfl, P.fr F4 (by decide) (by decide)⟩
          · obtain ⟨k, hk⟩ : ∃ k, i - at0 = k + 1 := ⟨i - at0 - 1, by omega⟩
            rw [hk, List.getElem?_cons_succ, List.getElem?_drop] at e
            rw [hk, List.getElem?_cons_succ, List.getElem?_drop]
            obtain ⟨q, e1, e2⟩ := c5 _ b e
            exact ⟨q, e1, e2.fr K4 (by decide) (by decide)⟩
      have blen : (best.take at0 ++ (tl tsf n, w) :: best.drop at0).length = best.length + 1 := by
        rw [List.length_append, List.length_cons, List.length_take, List.length_drop]
        omega
      obtain ⟨mo4, arr4, c4c⟩ := A4.cell
      have hcap' : (if li.length = cap then ncap cap else cap) = cap ∨ (best.length = cap ∧ (if li.length = cap then ncap cap else cap) = ncap cap) := by
        rw [c4]
        by_cases z : best.length = cap
        · exact Or.inr ⟨z, if_pos z⟩
        · exact Or.inl (if_neg z)
      refine g_aload_n O dX12_keep_94 rfl (by first | rfl | exact rf_ref _) ?_
      refine g_get O 11 2 rfl c14 dX12_keep_95 q1455 rfl (by decide) rfl rfl ?_
      refine g_callF O (n := 0) (x := ⟨"java/util/List", "size", "()I"⟩) (c_J4_size l E h4 A4) rfl rfl c4c dX12_keep_98 q1480 q220 q218 q45 q222 q216 q221 q219 q217 (O.k.2.2.2.2.2.2.2.1 _ (by decide)) (by decide +kernel) rfl rfl (by first | decide | omega) (by decide) (by first | exact Nat.le_of_ble_eq_true rfl | omega) (by first | exact Nat.le_of_ble_eq_true rfl | omega) (by first | exact Nat.le_of_ble_eq_true rfl | omega) (fun v h1 hp => ?_)
      obtain ⟨rfl, rfl⟩ := hp
      rw [hll, c4]
      refine g_bipush O dX12_keep_103 (nI 10) rfl ?_
      refine g_icmp_le O 120 dX12_keep_105 (by decide) (fun hc2 => ?_) (fun hc2 => ?_)
      · have hl9 : best.length + 1 ≤ 10 := (nI_leI (by omega) (by decide)).mp hc2
        exact g_vret O dX12_keep_120 (by first | exact Nat.le_of_ble_eq_true rfl | omega) (by first | exact Nat.le_of_ble_eq_true rfl | omega) ⟨rfl, ⟨_, by rw [hk, List.take_of_length_le (by omega)]; exact ⟨aT, aB, aS, _, c14, ⟨row, F4 _ _ (K _ _ v1 (by simp)) (show 31 ∉ [32] by decide), v2⟩, A4, by omega, pts, (c6.fr K (by simp)).fr F4 (by decide)⟩, hcap'⟩, K4⟩
      · have hl10 : best.length = 10 := by
          rcases Nat.lt_or_ge best.length 10 with z | z
          · exact absurd ((nI_leI (by omega) (by decide)).mpr (by omega)) hc2
          · omega
        have hl11 : (lins li at0 pt).length = 11 := by omega
        have hsp : lins li at0 pt = (lins li at0 pt).take 10 ++ [(lins li at0 pt)[10]] := by
          rw [← List.take_succ_eq_append_getElem (by omega : 10 < (lins li at0 pt).length), List.take_of_length_le (by omega)]
        have A5 : AL E h4 32 aB (if li.length = cap then ncap cap else cap) ((lins li at0 pt).take 10 ++ [(lins li at0 pt)[10]]) := by rw [← hsp]; exact A4
        have ht10 : ((lins li at0 pt).take 10).length = 10 := by rw [List.length_take]; omega
        have hrem := c_J4_remove l E h4 (by decide) A5
        rw [ht10] at hrem
        refine g_aload_n O dX12_keep_108 rfl (by first | rfl | exact rf_ref _) ?_
        refine g_get O 11 2 rfl c14 dX12_keep_109 q1455 rfl (by decide) rfl rfl ?_
        refine g_bipush O dX12_keep_112 (nI 10) rfl ?_
        refine g_callF O (n := 1) (x := ⟨"java/util/List", "remove", "(I)Ljava/lang/Object;"⟩) hrem rfl rfl c4c dX12_keep_114 q1513 q238 q236 q45 q240 q235 q239 q237 q217 (O.k.2.2.2.2.2.2.2.1 _ (by decide)) (by decide +kernel) rfl rfl (by first | decide | omega) (by decide) (by first | exact Nat.le_of_ble_eq_true rfl | omega) (by first | exact Nat.le_of_ble_eq_true rfl | omega) (by first | exact Nat.le_of_ble_eq_true rfl | omega) (fun v h5 hp => ?_)
        obtain ⟨rfl, A6, F6⟩ := hp
        refine g_pop O dX12_keep_119 rfl ?_
        refine g_vret O dX12_keep_120 (by omega) (by omega) ⟨rfl, ⟨_, ?_, hcap'⟩, K4.tr F6⟩
        rw [hk]
        refine ⟨aT, aB, aS, _, F6 _ _ c14 (show 30 ∉ [32] by decide), ⟨row, F6 _ _ (F4 _ _ (K _ _ v1 (by simp)) (show 31 ∉ [32] by decide)) (show 31 ∉ [32] by decide), v2⟩, A6, by rw [ht10, List.length_take]; omega, fun i b e => ?_, ((c6.fr K (by simp)).fr F4 (by decide)).fr F6 (by decide)⟩
        have hi : i < 10 := by
          have := (List.getElem?_eq_some_iff.mp e).1
          rw [List.length_take] at this
          omega
        rw [List.getElem?_take_of_lt hi] at e
        rw [List.getElem?_take_of_lt hi]
        obtain ⟨q, e1, e2⟩ := pts i b e
        exact ⟨q, e1, e2.fr F6 (by decide) (by decide)⟩
  have loop : ∀ k, k ≤ best.length → posN best w k = posN best w best.length → Wg p l e (rmG 7 (2 + gc) (8 + gs)) s m args below meth c E (MQ below (gQ E (fun v h' => v = none ∧ (∃ cap', AP E h' x tr pl n tsf sf cap' (kp best (tl tsf n, w)) ∧ (cap' = cap ∨ (best.length = cap ∧ cap' = ncap cap))) ∧ Fr [32] h h')) args s (2 + gc) (8 + gs) (gA E)) 10 [some (.ref x), some (.long (lN w)), none, some (.int (nI k)), none] [] h (0) (0) := by
    intro k
    induction k with
    | zero =>
      intro hk hpos
      refine g_iload_n O dX12_keep_10 rfl ?_
      refine g_if_le O 43 dX12_keep_11 (by decide) (fun hc => ?_) (fun hc => ?_)
      · exact fin 0 hpos
      · exact absurd (by decide) hc
    | succ k ih =>
      intro hk hpos
      have hbk : best[k]? = some best[k] := List.getElem?_eq_getElem (by omega)
      obtain ⟨q, e1, e2⟩ := c5 k _ hbk
      obtain ⟨ar, o, pc1⟩ := e2.cell
      have hgd : best.getD k ([], 0) = best[k] := by rw [List.getD_eq_getElem?_getD, hbk]; rfl
      have hb2 := hbw best[k] (List.getElem_mem (by omega))
      rw [posN, hgd] at hpos
      refine g_iload_n O dX12_keep_10 rfl ?_
      refine g_if_le O 43 dX12_keep_11 (by decide) (fun hc => ?_) (fun hc => ?_)
      · exact absurd ((nI_leI (a := k + 1) (b := 0) (by omega) (by decide)).mp hc) (by omega)
      · refine g_aload_n O dX12_keep_14 rfl (by first | rfl | exact rf_ref _) ?_
        refine g_get O 11 2 rfl c1 dX12_keep_15 q1455 rfl (by decide) rfl rfl ?_
        refine g_iload_n O dX12_keep_18 rfl ?_
        refine g_iconst O dX12_keep_19 (nI 1) rfl ?_
        refine g_isub O dX12_keep_20 ?_
        rw [pk_sub (by omega : 1 ≤ k + 1), show k + 1 - 1 = k by omega]
        refine g_callF O (n := 1) (x := ⟨"java/util/List", "get", "(I)Ljava/lang/Object;"⟩) (c_J4_get l E h c3 e1) rfl rfl c3c dX12_keep_21 q1482 q1191 q1189 q45 q1193 q1188 q1192 q1190 q217 (O.k.2.2.2.2.2.2.2.1 _ (by decide)) (by decide +kernel) rfl rfl (by first | decide | omega) (by decide) (by first | exact Nat.le_of_ble_eq_true rfl | omega) (by first | exact Nat.le_of_ble_eq_true rfl | omega) (by first | exact Nat.le_of_ble_eq_true rfl | omega) (fun v h1 hp => ?_)
        obtain ⟨rfl, rfl⟩ := hp
        refine g_castS O rfl pc1 q1483 dX12_keep_26 ?_
        refine g_get O 9 1 rfl pc1 dX12_keep_29 q1367 rfl (by decide) rfl rfl ?_
        refine g_lload_n O dX12_keep_32 rfl ?_
        refine g_lcmp O dX12_keep_33 ?_
        rcases lcmp_cases hb2 hw with ⟨z1, z2⟩ | ⟨z1, z2⟩ | ⟨z1, z2⟩
        · rw [z1]
          rw [if_pos z2] at hpos
          refine g_if_ge O 43 dX12_keep_34 (by decide) (fun hc2 => ?_) (fun hc2 => ?_)
          · exact absurd hc2 (by decide)
          · refine g_iinc O dX12_keep_37 rfl (by first | rfl | exact rf_lok rfl) ?_
            refine g_goto O 10 dX12_keep_40 (by decide) ?_
            refine Wg.L [some (.ref x), some (.long (lN w)), none, some (.int (nI k)), none] (by rw [show nI k = nI (k + 1) + Int32.ofInt (-1) from (pI_dec (k + 1)).symm]; rfl) ?_
            exact ih (by omega) hpos
        · rw [z1]
          rw [if_neg (by omega)] at hpos
          refine g_if_ge O 43 dX12_keep_34 (by decide) (fun hc2 => ?_) (fun hc2 => ?_)
          · exact fin (k + 1) hpos
          · exact absurd (by decide) hc2
        · rw [z1]
          rw [if_neg (by omega)] at hpos
          refine g_if_ge O 43 dX12_keep_34 (by decide) (fun hc2 => ?_) (fun hc2 => ?_)
          · exact fin (k + 1) hpos
          · exact absurd (by decide) hc2
  refine g_aload_n O dX12_keep_0 rfl (by first | rfl | exact rf_ref _) ?_
  refine g_get O 11 2 rfl c1 dX12_keep_1 q1455 rfl (by decide) rfl rfl ?_
  refine g_callF O (n := 0) (x := ⟨"java/util/List", "size", "()I"⟩) (c_J4_size l E h c3) rfl rfl c3c dX12_keep_4 q1480 q220 q218 q45 q222 q216 q221 q219 q217 (O.k.2.2.2.2.2.2.2.1 _ (by decide)) (by decide +kernel) rfl rfl (by first | decide | omega) (by decide) (by first | exact Nat.le_of_ble_eq_true rfl | omega) (by first | exact Nat.le_of_ble_eq_true rfl | omega) (by first | exact Nat.le_of_ble_eq_true rfl | omega) (fun v h1 hp => ?_)
  obtain ⟨rfl, rfl⟩ := hp
  rw [c4]
  refine g_istore_n O rfl dX12_keep_9 rfl ?_
  exact loop best.length (Nat.le_refl _) rfl
