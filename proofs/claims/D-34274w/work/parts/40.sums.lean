set_option maxRecDepth 100000
/-! Trellis.sums (printed by tools/gen_sums.py) -/
/-- a long[5] with f -/
def VL (E : GE) (h : HV) (ls a : Nat) (f : Nat → Nat) : Prop := ∃ row, h a = some (ls, cLongs E 5 row) ∧ ∀ j, j < 5 → row j = lN (f j)
theorem VL.fr {E : GE} {h h' : HV} {ls a : Nat} {f : Nat → Nat} {S : List Nat} (F : Fr S h h') (h1 : ls ∉ S) (M : VL E h ls a f) : VL E h' ls a f := by
  obtain ⟨row, m1, m2⟩ := M
  exact ⟨row, F _ _ m1 h1, m2⟩
theorem VL.set {E : GE} {h : HV} {ls a i v : Nat} {f : Nat → Nat} {row row' : Nat → Int64} (hq : ∀ j, j < 5 → row j = lN (f j)) (he : row' = fun y => if y = i then lN v else row y) : VL E (hup h a (ls, cLongs E 5 row')) ls a (fu f i v) := by
  subst he
  refine ⟨_, hup_self, fun j hj => ?_⟩
  unfold fu
  by_cases h : j = i
  · rw [if_pos h, if_pos h]
  · rw [if_neg h, if_neg h]
    exact hq j hj
/-- what the ways to a tag at a place weigh together -/
def hOf (wt st : Nat → Nat → Nat) (fi : Nat → Nat) : Nat → Nat → Nat
  | 0, t => wt 0 t * sOf st fi none t
  | k + 1, t => tot (fun u => hOf wt st fi k u * aOf wt st fi (k + 1) u t) 5
theorem c_X9_sums (l : Launch) (E : GE) (h : HV) {r T n pl : Nat} {cw ce : List Nat → Nat → Nat} {st : Nat → Nat → Nat} {fi : Nat → Nat} {ws : List (List Nat)} {lk : Nat → Option Nat} {wt : Nat → Nat → Nat} (hR : TR E h r T n wt (fun i j => sOf st fi (some i) j)) (hQ : TQ E h T cw ce st fi ws lk) (hwt : ∀ i j, wt i j ≤ 9) (hn : n ≤ 5) (hpl : pl < n) : Cg l E yX9_sums cX9_sums 8 (some (.array .long)) 4 11 55 [.ref r, .int (nI pl)] h (fun v h' => (∃ a, v = some (.ref a) ∧ VL E h' 24 a (fun t => hOf wt st fi pl t * bOf (aOf wt st fi) true n (n - 1 - pl) t)) ∧ Fr [23, 24] h h') := by
  have hR0 := hR
  obtain ⟨aW, aS, r1, -⟩ := hR
  refine Cg.of (by first | exact plainFor_of_name (by decide) | decide +kernel) [some (.ref r), some (.int (nI pl)), none, none, none, none, none, none] (Nat.le_of_ble_eq_true rfl) rfl ?_
  intro p e s m args below meth c O
  refine g_aload_n O dX9_sums_0 rfl (by first | rfl | exact rf_ref _) ?_
  refine g_iconst O dX9_sums_1 (nI 1) rfl ?_
  refine g_callV O (n := 1) (c_X9_behind l E h true hR0 hQ hwt hn (by omega)) rfl rfl r1 dX9_sums_2 q1305 q1306 q1307 q75 q1308 rfl (by decide +kernel) rfl rfl (by first | decide | omega) (by decide) (by first | exact Nat.le_of_ble_eq_true rfl | omega) (by first | exact Nat.le_of_ble_eq_true rfl | omega) (by first | exact Nat.le_of_ble_eq_true rfl | omega) (fun v h1 hp => ?_)
  obtain ⟨⟨b, rfl, hB⟩, F1⟩ := hp
  have F1' : Fr [23, 24] h h1 := F1.mono (fun x hx => by rw [List.mem_singleton.mp hx]; simp)
  refine g_astore_n O rfl dX9_sums_5 (by first | rfl | exact rf_ref _) (by first | rfl | exact rf_lst ⟨rfl, rfl⟩) ?_
  refine g_iconst O dX9_sums_6 (nI 5) rfl ?_
  refine g_newa O 24 1 5 (5, .inr (.inl (fun _ => 0))) dX9_sums_7 rfl rfl rfl (by decide) q1327 (by first | exact Nat.le_of_ble_eq_true rfl | omega) (by first | exact Nat.le_of_ble_eq_true rfl | omega) (fun a ha => ?_)
  refine Wg.abs (fun hA eA => ?_)
  have FA : Fr [] h1 hA := by rw [← eA]; exact Fr.rf.new ha
  have VA : VL E hA 24 a (fun _ => 0) := by rw [← eA]; exact ⟨_, hup_self, fun j hj => rfl⟩
  clear eA
  have keep : ∀ hh, Fr [23, 24] h hh → TR E hh r T n wt (fun i j => sOf st fi (some i) j) ∧ TQ E hh T cw ce st fi ws lk ∧ hh r = some (20, .inr (10, [.int (nI n), .ref aW, .ref aS, .ref T])) := fun hh F => ⟨hR0.fr F (by decide) (by decide) (by decide), hQ.fr F (by decide), F _ _ r1 (show 20 ∉ [23, 24] by decide)⟩
  -- the last loop
  have last : ∀ d t hh a f, t + d = 5 → Fr [23, 24] h hh → LX E hh 23 b n (fun i j => bOf (aOf wt st fi) true n (n - 1 - i) j) → VL E hh 24 a f → (∀ j, j < t → f j = hOf wt st fi pl j * bOf (aOf wt st fi) true n (n - 1 - pl) j) → (∀ j, t ≤ j → j < 5 → f j = hOf wt st fi pl j) → Wg p l e (rmG 4 11 55) s m args below meth c E (MQ below (gQ E (fun v h' => (∃ a, v = some (.ref a) ∧ VL E h' 24 a (fun t => hOf wt st fi pl t * bOf (aOf wt st fi) true n (n - 1 - pl) t)) ∧ Fr [23, 24] h h')) args s 11 55 (gA E)) 116 [some (.ref r), some (.int (nI pl)), some (.ref b), some (.ref a), some (.int (nI t)), none, none, none] [] hh (11) (55) := by
    intro d
    induction d with
    | zero =>
      intro t hh a f ht hF hB hV hd hu
      obtain rfl : t = 5 := by omega
      refine g_iload O dX9_sums_116 rfl ?_
      refine g_iconst O dX9_sums_118 (nI 5) rfl ?_
      refine g_icmp_ge O 141 dX9_sums_119 (by decide) (fun hc => ?_) (fun hc => ?_)
      · refine g_aload_n O dX9_sums_141 rfl (by first | rfl | exact rf_ref _) ?_
        refine g_aret O dX9_sums_142 (Or.inr ⟨_, rfl⟩) (Or.inr ⟨_, rfl⟩) (Nat.le_refl _) (Nat.le_refl _) ⟨⟨a, rfl, ?_⟩, hF⟩
        obtain ⟨row, m1, m2⟩ := hV
        exact ⟨row, m1, fun j hj => (by rw [m2 j hj, hd j hj])⟩
      · exact absurd (Int32.le_refl _) hc
    | succ d ih =>
      intro t hh a f ht hF hB hV hd hu
      have hB0 := hB
      obtain ⟨row, m1, m2⟩ := hV
      obtain ⟨g, k1, k2, k3⟩ := hB
      obtain ⟨r0, row0, e1, e2, e3⟩ := k2 pl hpl
      have e4 : row0 t = lN (bOf (aOf wt st fi) true n (n - 1 - pl) t) := e3 t (by omega)
      refine g_iload O dX9_sums_116 rfl ?_
      refine g_iconst O dX9_sums_118 (nI 5) rfl ?_
      refine g_icmp_ge O 141 dX9_sums_119 (by decide) (fun hc => ?_) (fun hc => ?_)
      · exact absurd ((nI_leI (by decide) (by omega)).mp hc) (by omega)
      · refine g_aload_n O dX9_sums_122 rfl (by first | rfl | exact rf_ref _) ?_
        refine g_iload O dX9_sums_123 rfl ?_
        refine g_dup2 O dX9_sums_125 rfl rfl ?_
        refine g_lald O t rfl (by omega) (by decide) m1 dX9_sums_126 ?_
        rw [m2 t (by omega), hu t (Nat.le_refl _) (by omega)]
        refine g_aload_n O dX9_sums_127 rfl (by first | rfl | exact rf_ref _) ?_
        refine g_iload_n O dX9_sums_128 rfl ?_
        refine g_aaldA O 6 pl rfl rfl hpl (by omega) k1 dX9_sums_129 ?_
        rw [e1]
        refine g_iload O dX9_sums_130 rfl ?_
        refine g_lald O t rfl (by omega) (by decide) e2 dX9_sums_132 ?_
        rw [e4]
        refine g_lmul O dX9_sums_133 ?_
        rw [lN_mul]
        have F2 : Fr [24] hh (hup hh a (24, cLongs E 5 (vp_updL row t (lN (hOf wt st fi pl t * bOf (aOf wt st fi) true n (n - 1 - pl) t))))) := Fr.rf.up m1 (by decide)
        refine g_last O t rfl (by omega) (by decide) m1 (by decide) dX9_sums_134 ?_
        refine g_iinc O dX9_sums_135 rfl (by first | rfl | exact rf_lok rfl) ?_
        refine g_goto O 116 dX9_sums_138 (by decide) ?_
        refine Wg.L [some (.ref r), some (.int (nI pl)), some (.ref b), some (.ref a), some (.int (nI (t + 1))), none, none, none] (by rw [← nI_1 t]; rfl) ?_
        refine ih (t + 1) _ a (fu f t (hOf wt st fi pl t * bOf (aOf wt st fi) true n (n - 1 - pl) t)) (by omega) (hF.tr (F2.mono (by decide))) (hB0.fr F2 (by decide)) (VL.set m2 rfl) (fun j hj => ?_) (fun j hj hj5 => ?_)
        · by_cases hjt : j = t
          · rw [hjt, fu_self]
          · rw [fu_ne hjt]; exact hd j (by omega)
        · rw [fu_ne (by omega)]; exact hu j (by omega) hj5
  -- from place to place
  have mid : ∀ d k hh a f, k + d = pl → Fr [23, 24] h hh → LX E hh 23 b n (fun i j => bOf (aOf wt st fi) true n (n - 1 - i) j) → VL E hh 24 a f → (∀ j, j < 5 → f j = hOf wt st fi k j) → Wg p l e (rmG 4 11 55) s m args below meth c E (MQ below (gQ E (fun v h' => (∃ a, v = some (.ref a) ∧ VL E h' 24 a (fun t => hOf wt st fi pl t * bOf (aOf wt st fi) true n (n - 1 - pl) t)) ∧ Fr [23, 24] h h')) args s 11 55 (gA E)) 40 [some (.ref r), some (.int (nI pl)), some (.ref b), some (.ref a), some (.int (nI (k + 1))), none, none, none] [] hh (7 + k) (35 + k * 5) := by
    intro d
    induction d with
    | zero =>
      intro k hh a f hk hF hB hV hd
      obtain rfl : k = pl := by omega
      refine g_iload O dX9_sums_40 rfl ?_
      refine g_iload_n O dX9_sums_42 rfl ?_
      refine g_icmp_gt O 113 dX9_sums_43 (by decide) (fun hc => ?_) (fun hc => ?_)
      · refine g_iconst O dX9_sums_113 (nI 0) rfl ?_
        refine g_istore O dX9_sums_114 rfl ?_
        refine Wg.wide 11 55 (by omega) (by omega) ?_
        exact last 5 0 hh a f (by omega) hF hB hV (fun j hj => absurd hj (Nat.not_lt_zero _)) (fun j _ hj => hd j hj)
      · exact absurd ((nI_ltI (by omega) (by omega)).mpr (Nat.lt_succ_self _)) hc
    | succ d ih =>
      intro k hh a f hk hF hB hV hd
      refine g_iload O dX9_sums_40 rfl ?_
      refine g_iload_n O dX9_sums_42 rfl ?_
      refine g_icmp_gt O 113 dX9_sums_43 (by decide) (fun hc => ?_) (fun hc => ?_)
      · exact absurd ((nI_ltI (by omega) (by omega)).mp hc) (by omega)
      · refine g_iconst O dX9_sums_46 (nI 5) rfl ?_
        refine g_newa O 24 1 5 (5, .inr (.inl (fun _ => 0))) dX9_sums_47 rfl rfl rfl (by decide) q1327 (by first | exact Nat.le_of_ble_eq_true rfl | omega) (by first | exact Nat.le_of_ble_eq_true rfl | omega) (fun nx hnx => ?_)
        refine g_astore O dX9_sums_49 (by first | rfl | exact rf_ref _) (by first | rfl | exact rf_lst ⟨rfl, rfl⟩) ?_
        refine Wg.abs (fun hN eN => ?_)
        have FN : Fr [] hh hN := by rw [← eN]; exact Fr.rf.new hnx
        have VN : VL E hN 24 nx (fun _ => 0) := by rw [← eN]; exact ⟨_, hup_self, fun j hj => rfl⟩
        have nxa : nx ≠ a := fun z => by obtain ⟨row, m1, m2⟩ := hV; rw [← z, hnx] at m1; cases m1
        clear eN
        have FN' : Fr [23, 24] hh hN := FN.mono (fun x hx => by cases hx)
        have tags : ∀ d2 t hh g, t + d2 = 5 → Fr [23, 24] h hh → LX E hh 23 b n (fun i j => bOf (aOf wt st fi) true n (n - 1 - i) j) → VL E hh 24 a f → VL E hh 24 nx g → (∀ j, j < t → g j = hOf wt st fi (k + 1) j) → (∀ j, t ≤ j → j < 5 → g j = 0) → Wg p l e (rmG 4 11 55) s m args below meth c E (MQ below (gQ E (fun v h' => (∃ a, v = some (.ref a) ∧ VL E h' 24 a (fun t => hOf wt st fi pl t * bOf (aOf wt st fi) true n (n - 1 - pl) t)) ∧ Fr [23, 24] h h')) args s 11 55 (gA E)) 54 [some (.ref r), some (.int (nI pl)), some (.ref b), some (.ref a), some (.int (nI (k + 1))), some (.ref nx), some (.int (nI t)), none] [] hh (7 + (k + 1)) (35 + (k + 1) * 5) := by
          intro d2
          induction d2 with
          | zero =>
            intro t hh g ht hF hB hV hG hd2 hu
            obtain rfl : t = 5 := by omega
            refine g_iload O dX9_sums_54 rfl ?_
            refine g_iconst O dX9_sums_56 (nI 5) rfl ?_
            refine g_icmp_ge O 104 dX9_sums_57 (by decide) (fun hc2 => ?_) (fun hc2 => ?_)
            · refine g_aload O dX9_sums_104 rfl (by first | rfl | exact rf_ref _) ?_
              refine g_astore_n O rfl dX9_sums_106 (by first | rfl | exact rf_ref _) (by first | rfl | exact rf_lst ⟨rfl, rfl⟩) ?_
              refine g_iinc O dX9_sums_107 rfl (by first | rfl | exact rf_lok rfl) ?_
              refine g_goto O 40 dX9_sums_110 (by decide) ?_
              refine Wg.fg 5 (Wg.fg 6 ?_)
              refine Wg.L [some (.ref r), some (.int (nI pl)), some (.ref b), some (.ref nx), some (.int (nI (k + 1 + 1))), none, none, none] (by rw [← nI_1 (k + 1)]; rfl) ?_
              exact ih (k + 1) hh nx g (by omega) hF hB hG hd2
            · exact absurd (Int32.le_refl _) hc2
          | succ d2 ih2 =>
            intro t hh g ht hF hB hV hG hd2 hu
            have froms : ∀ d3 u hh g, u + d3 = 5 → Fr [23, 24] h hh → LX E hh 23 b n (fun i j => bOf (aOf wt st fi) true n (n - 1 - i) j) → VL E hh 24 a f → VL E hh 24 nx g → (∀ j, j < t → g j = hOf wt st fi (k + 1) j) → (∀ j, t < j → j < 5 → g j = 0) → g t = tot (fun u => hOf wt st fi k u * aOf wt st fi (k + 1) u t) u → Wg p l e (rmG 4 11 55) s m args below meth c E (MQ below (gQ E (fun v h' => (∃ a, v = some (.ref a) ∧ VL E h' 24 a (fun t => hOf wt st fi pl t * bOf (aOf wt st fi) true n (n - 1 - pl) t)) ∧ Fr [23, 24] h h')) args s 11 55 (gA E)) 63 [some (.ref r), some (.int (nI pl)), some (.ref b), some (.ref a), some (.int (nI (k + 1))), some (.ref nx), some (.int (nI t)), some (.int (nI u))] [] hh (7 + (k + 1)) (35 + (k + 1) * 5) := by
              intro d3
              induction d3 with
              | zero =>
                intro u hh g hu5 hF hB hV hG hd2 hu hg
                obtain rfl : u = 5 := by omega
                refine g_iload O dX9_sums_63 rfl ?_
                refine g_iconst O dX9_sums_65 (nI 5) rfl ?_
                refine g_icmp_ge O 98 dX9_sums_66 (by decide) (fun hc3 => ?_) (fun hc3 => ?_)
                · refine g_iinc O dX9_sums_98 rfl (by first | rfl | exact rf_lok rfl) ?_
                  refine g_goto O 54 dX9_sums_101 (by decide) ?_
                  refine Wg.fg 7 ?_
                  refine Wg.L [some (.ref r), some (.int (nI pl)), some (.ref b), some (.ref a), some (.int (nI (k + 1))), some (.ref nx), some (.int (nI (t + 1))), none] (by rw [← nI_1 t]; rfl) ?_
                  refine ih2 (t + 1) hh g (by omega) hF hB hV hG (fun j hj => ?_) (fun j hj hj5 => hu j (by omega) hj5)
                  rcases Nat.lt_or_ge j t with z | z
                  · exact hd2 j z
                  · rw [show j = t by omega]; exact hg
                · exact absurd (Int32.le_refl _) hc3
              | succ d3 ih3 =>
                intro u hh g hu5 hF hB hV hG hd2 hu hg
                obtain ⟨hRh, hQh, r1h⟩ := keep hh hF
                have hV0 := hV
                obtain ⟨row, m1, m2⟩ := hV
                obtain ⟨row2, k1, k2⟩ := hG
                refine g_iload O dX9_sums_63 rfl ?_
                refine g_iconst O dX9_sums_65 (nI 5) rfl ?_
                refine g_icmp_ge O 98 dX9_sums_66 (by decide) (fun hc3 => ?_) (fun hc3 => ?_)
                · exact absurd ((nI_leI (by decide) (by omega)).mp hc3) (by omega)
                · refine g_aload O dX9_sums_69 rfl (by first | rfl | exact rf_ref _) ?_
                  refine g_iload O dX9_sums_71 rfl ?_
                  refine g_dup2 O dX9_sums_73 rfl rfl ?_
                  refine g_lald O t rfl (by omega) (by decide) k1 dX9_sums_74 ?_
                  rw [k2 t (by omega), hg]
                  refine g_aload_n O dX9_sums_75 rfl (by first | rfl | exact rf_ref _) ?_
                  refine g_iload O dX9_sums_76 rfl ?_
                  refine g_lald O u rfl (by omega) (by decide) m1 dX9_sums_78 ?_
                  rw [m2 u (by omega), hd u (by omega)]
                  refine g_aload_n O dX9_sums_79 rfl (by first | rfl | exact rf_ref _) ?_
                  refine g_iload O dX9_sums_80 rfl ?_
                  refine g_iload O dX9_sums_82 rfl ?_
                  refine g_iload O dX9_sums_84 rfl ?_
                  refine g_callV O (n := 3) (c_X9_at l E hh (some u) hRh hQh hwt hn (by omega : k + 1 < n) (by omega : t < 5) (fun k hk => by cases hk; omega)) rfl rfl r1h dX9_sums_86 q1311 q1312 q1313 q75 q1314 rfl (by decide +kernel) rfl rfl (by first | decide | omega) (by decide) (by first | exact Nat.le_of_ble_eq_true rfl | omega) (by first | exact Nat.le_of_ble_eq_true rfl | omega) (by first | exact Nat.le_of_ble_eq_true rfl | omega) (fun v h1 hp => ?_)
                  obtain ⟨rfl, rfl⟩ := hp
                  refine g_lmul O dX9_sums_89 ?_
                  rw [lN_mul]
                  refine g_ladd O dX9_sums_90 ?_
                  rw [lN_add]
                  have F2 : Fr [24] hh (hup hh nx (24, cLongs E 5 (vp_updL row2 t (lN (tot (fun u => hOf wt st fi k u * aOf wt st fi (k + 1) u t) u + hOf wt st fi k u * (wt (k + 1) t * sOf st fi (some u) t)))))) := Fr.rf.up k1 (by decide)
                  refine g_last O t rfl (by omega) (by decide) k1 (by decide) dX9_sums_91 ?_
                  refine g_iinc O dX9_sums_92 rfl (by first | rfl | exact rf_lok rfl) ?_
                  refine g_goto O 63 dX9_sums_95 (by decide) ?_
                  refine Wg.L [some (.ref r), some (.int (nI pl)), some (.ref b), some (.ref a), some (.int (nI (k + 1))), some (.ref nx), some (.int (nI t)), some (.int (nI (u + 1)))] (by rw [← nI_1 u]; rfl) ?_
                  refine ih3 (u + 1) _ (fu g t (tot (fun u => hOf wt st fi k u * aOf wt st fi (k + 1) u t) u + hOf wt st fi k u * (wt (k + 1) t * sOf st fi (some u) t))) (by omega) (hF.tr (F2.mono (by decide))) (hB.fr F2 (by decide)) ⟨row, (hup_ne (Ne.symm nxa)).trans m1, m2⟩ (VL.set k2 rfl) (fun j hj => by rw [fu_ne (by omega)]; exact hd2 j hj) (fun j hj hj5 => by rw [fu_ne (by omega)]; exact hu j hj hj5) (by rw [fu_self]; rfl)
            refine g_iload O dX9_sums_54 rfl ?_
            refine g_iconst O dX9_sums_56 (nI 5) rfl ?_
            refine g_icmp_ge O 104 dX9_sums_57 (by decide) (fun hc2 => ?_) (fun hc2 => ?_)
            · exact absurd ((nI_leI (by decide) (by omega)).mp hc2) (by omega)
            · refine g_iconst O dX9_sums_60 (nI 0) rfl ?_
              refine g_istore O dX9_sums_61 rfl ?_
              exact froms 5 0 hh g (by omega) hF hB hV hG hd2 (fun j hj hj5 => hu j (by omega) hj5) (hu t (Nat.le_refl _) (by omega))
        refine g_iconst O dX9_sums_51 (nI 0) rfl ?_
        refine g_istore O dX9_sums_52 rfl ?_
        refine Wg.wide (7 + (k + 1)) (35 + (k + 1) * 5) (by omega) (by omega) ?_
        exact tags 5 0 hN _ (by omega) (hF.tr FN') (hB.fr FN (by simp)) (hV.fr FN (by simp)) VN (fun j hj => absurd hj (Nat.not_lt_zero _)) (fun j _ _ => rfl)
  -- the first place
  have first : ∀ d t hh f, t + d = 5 → Fr [23, 24] h hh → LX E hh 23 b n (fun i j => bOf (aOf wt st fi) true n (n - 1 - i) j) → VL E hh 24 a f → (∀ j, j < t → f j = hOf wt st fi 0 j) → Wg p l e (rmG 4 11 55) s m args below meth c E (MQ below (gQ E (fun v h' => (∃ a, v = some (.ref a) ∧ VL E h' 24 a (fun t => hOf wt st fi pl t * bOf (aOf wt st fi) true n (n - 1 - pl) t)) ∧ Fr [23, 24] h h')) args s 11 55 (gA E)) 13 [some (.ref r), some (.int (nI pl)), some (.ref b), some (.ref a), some (.int (nI t)), none, none, none] [] hh (7) (35) := by
    intro d
    induction d with
    | zero =>
      intro t hh f ht hF hB hV hd
      obtain rfl : t = 5 := by omega
      refine g_iload O dX9_sums_13 rfl ?_
      refine g_iconst O dX9_sums_15 (nI 5) rfl ?_
      refine g_icmp_ge O 37 dX9_sums_16 (by decide) (fun hc => ?_) (fun hc => ?_)
      · refine g_iconst O dX9_sums_37 (nI 1) rfl ?_
        refine g_istore O dX9_sums_38 rfl ?_
        refine Wg.wide (7 + 0) (35 + 0 * 5) (by omega) (by omega) ?_
        exact mid pl 0 hh a f (by omega) hF hB hV hd
      · exact absurd (Int32.le_refl _) hc
    | succ d ih =>
      intro t hh f ht hF hB hV hd
      obtain ⟨hRh, hQh, r1h⟩ := keep hh hF
      obtain ⟨row, m1, m2⟩ := hV
      refine g_iload O dX9_sums_13 rfl ?_
      refine g_iconst O dX9_sums_15 (nI 5) rfl ?_
      refine g_icmp_ge O 37 dX9_sums_16 (by decide) (fun hc => ?_) (fun hc => ?_)
      · exact absurd ((nI_leI (by decide) (by omega)).mp hc) (by omega)
      · refine g_aload_n O dX9_sums_19 rfl (by first | rfl | exact rf_ref _) ?_
        refine g_iload O dX9_sums_20 rfl ?_
        refine g_aload_n O dX9_sums_22 rfl (by first | rfl | exact rf_ref _) ?_
        refine g_iconst O dX9_sums_23 (nI 0) rfl ?_
        refine g_iconst O dX9_sums_24 (-1) rfl ?_
        refine g_iload O dX9_sums_25 rfl ?_
        refine g_callV O (n := 3) (c_X9_at l E hh (i := 0) none hRh hQh hwt hn (by omega) (by omega : t < 5) (fun k hk => by cases hk)) rfl rfl r1h dX9_sums_27 q1311 q1312 q1313 q75 q1314 rfl (by decide +kernel) rfl rfl (by first | decide | omega) (by decide) (by first | exact Nat.le_of_ble_eq_true rfl | omega) (by first | exact Nat.le_of_ble_eq_true rfl | omega) (by first | exact Nat.le_of_ble_eq_true rfl | omega) (fun v h1 hp => ?_)
        obtain ⟨rfl, rfl⟩ := hp
        have F2 : Fr [24] hh (hup hh a (24, cLongs E 5 (vp_updL row t (lN (wt 0 t * sOf st fi none t))))) := Fr.rf.up m1 (by decide)
        refine g_last O t rfl (by omega) (by decide) m1 (by decide) dX9_sums_30 ?_
        refine g_iinc O dX9_sums_31 rfl (by first | rfl | exact rf_lok rfl) ?_
        refine g_goto O 13 dX9_sums_34 (by decide) ?_
        refine Wg.L [some (.ref r), some (.int (nI pl)), some (.ref b), some (.ref a), some (.int (nI (t + 1))), none, none, none] (by rw [← nI_1 t]; rfl) ?_
        refine ih (t + 1) _ (fu f t (wt 0 t * sOf st fi none t)) (by omega) (hF.tr (F2.mono (by decide))) (hB.fr F2 (by decide)) (VL.set m2 rfl) (fun j hj => ?_)
        by_cases hjt : j = t
        · rw [hjt, fu_self]; rfl
        · rw [fu_ne hjt]; exact hd j (by omega)
  refine g_astore_n O rfl dX9_sums_9 (by first | rfl | exact rf_ref _) (by first | rfl | exact rf_lst ⟨rfl, rfl⟩) ?_
  refine g_iconst O dX9_sums_10 (nI 0) rfl ?_
  refine g_istore O dX9_sums_11 rfl ?_
  refine Wg.wide 7 35 (by omega) (by omega) ?_
  exact first 5 0 hA _ (by omega) (F1'.tr (FA.mono (fun x hx => by cases hx))) (hB.fr FA (by simp)) VA (fun j hj => absurd hj (Nat.not_lt_zero _))
