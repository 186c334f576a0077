set_option maxRecDepth 100000
/-! counts: words' endings; what a word weighs -/
theorem ends_ne {w : List Nat} {j k : Nat} (hj : j ≤ w.length) (hk : k ≤ w.length) (n : j ≠ k) : ends w j ≠ ends w k := fun z => n (by rw [← ends_len hj, ← ends_len hk, z])
/-- the counts of a word's first n endings moved -/
def cbys (cnt : List Nat → Nat → Nat) (up : Bool) (w : List Nat) (tag : Nat) : Nat → List Nat → Nat → Nat
  | 0 => cnt
  | n + 1 => cby (cbys cnt up w tag n) up (ends w (n + 1)) tag
theorem cbys_o {cnt : List Nat → Nat → Nat} {up : Bool} {w : List Nat} {tag k j : Nat} (hk : k ≤ w.length) : ∀ n, n < k → cbys cnt up w tag n (ends w k) j = cnt (ends w k) j
  | 0, _ => rfl
  | n + 1, h => by
    show (if ends w k = ends w (n + 1) ∧ j = tag then _ else _) = _
    rw [if_neg (fun z => ends_ne hk (by omega) (by omega) z.1)]
    exact cbys_o hk n (by omega)
/-- how many endings count -/
abbrev many3 (w : List Nat) : Nat := if w.length < 3 then w.length else 3
theorem c_X5_note (l : Launch) (E : GE) (h : HV) {la a lm lr b tag : Nat} {w : List Nat} {cnt : List Nat → Nat → Nat} (up : Bool) (z1 : lm ≠ 0) (z2 : lr ≠ 0) (z3 : lm ≠ lr) (z4 : la ≠ lm) (z5 : la ≠ lr) (z6 : la ≠ 50) (z7 : lm ≠ 50) (z8 : lr ≠ 50) (z9 : la ≠ 0) (hC : CO E h 2 la a lm lr cnt) (hw : Str E h b w) (hl : w.length ≤ 7) (ht : tag < 5) (hpos : up = false → ∀ k, 1 ≤ k → k ≤ many3 w → 0 < cnt (ends w k) tag) : Cg l E yX5_note cX5_note 5 none 10 18 126 [.ref a, .ref b, .int (nI tag), .int (byI up)] h (fun v h' => v = none ∧ CO E h' 2 la a lm lr (cbys cnt up w tag (many3 w)) ∧ Fr [50, lm, lr] h h') := by
  obtain ⟨fs, hcell⟩ := hw.cell
  refine Cg.of (by first | exact plainFor_of_name (by decide) | decide +kernel) [some (.ref a), some (.ref b), some (.int (nI tag)), some (.int (byI up)), none] (Nat.le_of_ble_eq_true rfl) rfl ?_
  intro p e s m args below meth c O
  have n50 : 0 ∉ [50, lm, lr] := by simp [Ne.symm z1, Ne.symm z2]
  have n51 : 0 ∉ [lm, lr] := by simp [Ne.symm z1, Ne.symm z2]
  have loop : ∀ d n hh, n + d = many3 w → CO E hh 2 la a lm lr (cbys cnt up w tag n) → Fr [50, lm, lr] h hh → Wg p l e (rmG 10 18 126) s m args below meth c E (MQ below (gQ E (fun v h' => v = none ∧ CO E h' 2 la a lm lr (cbys cnt up w tag (many3 w)) ∧ Fr [50, lm, lr] h h')) args s 18 126 (gA E)) 3 [some (.ref a), some (.ref b), some (.int (nI tag)), some (.int (byI up)), some (.int (nI (n + 1)))] [] hh (n * 6) (n * 42) := by
    intro d
    induction d with
    | zero =>
      intro n hh hn hC hF
      obtain rfl : n = many3 w := by omega
      have hm : many3 w ≤ 3 := by unfold many3; split <;> omega
      have fin : Wg p l e (rmG 10 18 126) s m args below meth c E (MQ below (gQ E (fun v h' => v = none ∧ CO E h' 2 la a lm lr (cbys cnt up w tag (many3 w)) ∧ Fr [50, lm, lr] h h')) args s 18 126 (gA E)) 36 [some (.ref a), some (.ref b), some (.int (nI tag)), some (.int (byI up)), some (.int (nI (many3 w + 1)))] [] hh (many3 w * 6) (many3 w * 42) := by
        exact g_vret O dX5_note_36 (by omega) (by omega) ⟨rfl, hC, hF⟩
      refine g_iload O dX5_note_3 rfl ?_
      refine g_iconst O dX5_note_5 (nI 3) rfl ?_
      refine g_icmp_gt O 36 dX5_note_6 (by decide) (fun hc => ?_) (fun hc => ?_)
      · exact fin
      · refine g_iload O dX5_note_9 rfl ?_
        refine g_aload_n O dX5_note_11 rfl (by first | rfl | exact rf_ref _) ?_
        refine g_callV O (n := 0) (c_J9_length l E hh (hw.fr hF n50)) rfl rfl (hF _ _ hcell n50) dX5_note_12 q1143 q385 q386 q51 q387 rfl (by decide +kernel) rfl rfl (by first | decide | omega) (by decide) (by first | exact Nat.le_of_ble_eq_true rfl | omega) (by first | exact Nat.le_of_ble_eq_true rfl | omega) (by first | exact Nat.le_of_ble_eq_true rfl | omega) (fun v h1 hp => ?_)
        obtain ⟨rfl, rfl⟩ := hp
        refine g_icmp_gt O 36 dX5_note_15 (by decide) (fun hc2 => ?_) (fun hc2 => ?_)
        · exact fin
        · exfalso
          have h1 : ¬ 3 < many3 w + 1 := fun z => hc ((nI_ltI (by omega) (by omega)).mpr z)
          have h2 : ¬ w.length < many3 w + 1 := fun z => hc2 ((nI_ltI (by omega) (by omega)).mpr z)
          revert h1 h2
          unfold many3
          split <;> omega
    | succ d ih =>
      intro n hh hn hC hF
      have hm : n < 3 ∧ n < w.length := by revert hn; unfold many3; split <;> omega
      refine g_iload O dX5_note_3 rfl ?_
      refine g_iconst O dX5_note_5 (nI 3) rfl ?_
      refine g_icmp_gt O 36 dX5_note_6 (by decide) (fun hc => ?_) (fun hc => ?_)
      · exact absurd ((nI_ltI (by omega) (by omega)).mp hc) (by omega)
      · refine g_iload O dX5_note_9 rfl ?_
        refine g_aload_n O dX5_note_11 rfl (by first | rfl | exact rf_ref _) ?_
        refine g_callV O (n := 0) (c_J9_length l E hh (hw.fr hF n50)) rfl rfl (hF _ _ hcell n50) dX5_note_12 q1143 q385 q386 q51 q387 rfl (by decide +kernel) rfl rfl (by first | decide | omega) (by decide) (by first | exact Nat.le_of_ble_eq_true rfl | omega) (by first | exact Nat.le_of_ble_eq_true rfl | omega) (by first | exact Nat.le_of_ble_eq_true rfl | omega) (fun v h1 hp => ?_)
        obtain ⟨rfl, rfl⟩ := hp
        refine g_icmp_gt O 36 dX5_note_15 (by decide) (fun hc2 => ?_) (fun hc2 => ?_)
        · exact absurd ((nI_ltI (by omega) (by omega)).mp hc2) (by omega)
        · refine g_aload_n O dX5_note_18 rfl (by first | rfl | exact rf_ref _) ?_
          refine g_aload_n O dX5_note_19 rfl (by first | rfl | exact rf_ref _) ?_
          refine g_iload O dX5_note_20 rfl ?_
          refine g_callSN O (n := 2) (c_X1_endingOf l E _ (k := n + 1) (hw.fr hF n50) hl (by omega)) rfl dX5_note_22 q1144 q1145 q36 q1146 (by decide +kernel) rfl rfl (by first | decide | omega) (by decide) (by first | exact Nat.le_of_ble_eq_true rfl | omega) (by omega) (by omega) (fun v h2 hp => ?_)
          obtain ⟨q, rfl, hq, hF2⟩ := hp
          have hC2 := hC.fr hF2 (by decide) (by simpa using z6) (by simpa using z7) (by simpa using z8)
          have hel := ends_len (w := w) (k := n + 1) (by omega)
          have hC2' := hC2
          obtain ⟨t, f, c1, -⟩ := hC2'
          refine g_iload_n O dX5_note_25 rfl ?_
          refine g_iload_n O dX5_note_26 rfl ?_
          refine g_callSU2 O (n := 3) (c_X2_note_E l E h2 up z1 z2 z3 z4 z5 hC2 hq (by omega) ht (fun hu => by rw [cbys_o (by omega) n (by omega)]; exact hpos hu (n + 1) (by omega) (by omega))) rfl rfl c1 dX5_note_27 (g_cwSU2 3 O.ts q1175 q1176 q144 q1177 q834 q37 q835 rfl (by decide) (by decide +kernel) (by decide) (by decide)) rfl rfl (by first | exact Nat.le_of_ble_eq_true rfl | omega) (by omega) (by omega) (fun v h3 hp => ?_)
          obtain ⟨rfl, hC3, hF3⟩ := hp
          refine g_iinc O dX5_note_30 rfl (by first | rfl | exact rf_lok rfl) ?_
          refine g_goto O 3 dX5_note_33 (by decide) ?_
          refine Wg.L [some (.ref a), some (.ref b), some (.int (nI tag)), some (.int (byI up)), some (.int (nI (n + 1 + 1)))] (by rw [← nI_1 (n + 1)]; rfl) ?_
          refine Wg.wide ((n + 1) * 6) ((n + 1) * 42) (by omega) (by omega) ?_
          exact ih (n + 1) h3 (by omega) hC3 ((hF.tr (hF2.mono (fun x hx => by rw [List.mem_singleton.mp hx]; simp))).tr (hF3.mono (fun x hx => List.mem_cons_of_mem _ hx)))
  refine g_iconst O dX5_note_0 (nI 1) rfl ?_
  refine g_istore O dX5_note_1 rfl ?_
  exact loop (many3 w) 0 h (by omega) hC Fr.rf
/-- the longest of a word's first n endings that has counts -/
def lastE (cnt : List Nat → Nat → Nat) (w : List Nat) : Nat → Option Nat
  | 0 => none
  | n + 1 => if tot (cnt (ends w (n + 1))) 5 = 0 then lastE cnt w n else some (n + 1)
/-- the row of the longest ending that has counts -/
def RE (E : GE) (h : HV) (lr : Nat) (cnt : List Nat → Nat → Nat) (w : List Nat) (n : Nat) (o : Option Nat) : Prop := match lastE cnt w n with
  | none => o = none
  | some k => ∃ r row, o = some r ∧ h r = some (lr, cInts E 5 row) ∧ ∀ j, j < 5 → row j = nI (cnt (ends w k) j)
theorem RE.fr {E : GE} {h h' : HV} {lr : Nat} {cnt : List Nat → Nat → Nat} {w : List Nat} {n : Nat} {o : Option Nat} {S : List Nat} (F : Fr S h h') (hs : lr ∉ S) (R : RE E h lr cnt w n o) : RE E h' lr cnt w n o := by
  unfold RE at R ⊢
  revert R
  cases lastE cnt w n with
  | none => exact fun R => R
  | some k => rintro ⟨r, row, e, q1, q2⟩; exact ⟨r, row, e, F _ _ q1 hs, q2⟩
theorem c_X5_rowOf (l : Launch) (E : GE) (h : HV) {la a lm lr b : Nat} {w : List Nat} {cnt : List Nat → Nat → Nat} (z1 : lr ≠ 0) (z6 : la ≠ 50) (z7 : lm ≠ 50) (z8 : lr ≠ 50) (hC : CO E h 2 la a lm lr cnt) (hw : Str E h b w) (hl : w.length ≤ 7) (hb : ∀ w, tot (cnt w) 5 ≤ 1000000) : Cg l E yX5_rowOf cX5_rowOf 5 (some (.array .int)) 8 12 93 [.ref a, .ref b] h (fun v h' => (∃ o : Option Nat, v = some (va_rf o) ∧ RE E h' lr cnt w (many3 w) o) ∧ Fr [50] h h') := by
  obtain ⟨fs, hcell⟩ := hw.cell
  refine Cg.of (by first | exact plainFor_of_name (by decide) | decide +kernel) [some (.ref a), some (.ref b), none, none, none] (Nat.le_of_ble_eq_true rfl) rfl ?_
  intro p e s m args below meth c O
  have loop : ∀ d n hh o, n + d = many3 w → RE E hh lr cnt w n o → Fr [50] h hh → Wg p l e (rmG 8 12 93) s m args below meth c E (MQ below (gQ E (fun v h' => (∃ o : Option Nat, v = some (va_rf o) ∧ RE E h' lr cnt w (many3 w) o) ∧ Fr [50] h h')) args s 12 93 (gA E)) 4 [some (.ref a), some (.ref b), some (va_rf o), some (.int (nI (n + 1))), none] [] hh (n * 4) (n * 31) := by
    intro d
    induction d with
    | zero =>
      intro n hh o hn hR hF
      obtain rfl : n = many3 w := by omega
      have hm : many3 w ≤ 3 := by unfold many3; split <;> omega
      have fin : Wg p l e (rmG 8 12 93) s m args below meth c E (MQ below (gQ E (fun v h' => (∃ o : Option Nat, v = some (va_rf o) ∧ RE E h' lr cnt w (many3 w) o) ∧ Fr [50] h h')) args s 12 93 (gA E)) 46 [some (.ref a), some (.ref b), some (va_rf o), some (.int (nI (many3 w + 1))), none] [] hh (many3 w * 4) (many3 w * 31) := by
        refine g_aload_n O dX5_rowOf_46 rfl (by first | rfl | exact rf_ref _) ?_
        exact g_aret O dX5_rowOf_47 (by first | exact Or.inl ⟨_, rfl⟩ | exact Or.inr ⟨_, rfl⟩) (g_rfO _) (by omega) (by omega) ⟨⟨o, rfl, hR⟩, hF⟩
      refine g_iload_n O dX5_rowOf_4 rfl ?_
      refine g_iconst O dX5_rowOf_5 (nI 3) rfl ?_
      refine g_icmp_gt O 46 dX5_rowOf_6 (by decide) (fun hc => ?_) (fun hc => ?_)
      · exact fin
      · refine g_iload_n O dX5_rowOf_9 rfl ?_
        refine g_aload_n O dX5_rowOf_10 rfl (by first | rfl | exact rf_ref _) ?_
        refine g_callV O (n := 0) (c_J9_length l E hh (hw.fr hF (by decide))) rfl rfl (hF _ _ hcell (show 0 ∉ [50] by decide)) dX5_rowOf_11 q1143 q385 q386 q51 q387 rfl (by decide +kernel) rfl rfl (by first | decide | omega) (by decide) (by first | exact Nat.le_of_ble_eq_true rfl | omega) (by first | exact Nat.le_of_ble_eq_true rfl | omega) (by first | exact Nat.le_of_ble_eq_true rfl | omega) (fun v h1 hp => ?_)
        obtain ⟨rfl, rfl⟩ := hp
        refine g_icmp_gt O 46 dX5_rowOf_14 (by decide) (fun hc2 => ?_) (fun hc2 => ?_)
        · exact fin
        · exfalso
          have h1 : ¬ 3 < many3 w + 1 := fun z => hc ((nI_ltI (by omega) (by omega)).mpr z)
          have h2 : ¬ w.length < many3 w + 1 := fun z => hc2 ((nI_ltI (by omega) (by omega)).mpr z)
          revert h1 h2
          unfold many3
          split <;> omega
    | succ d ih =>
      intro n hh o hn hR hF
      have hm : n < 3 ∧ n < w.length := by revert hn; unfold many3; split <;> omega
      refine g_iload_n O dX5_rowOf_4 rfl ?_
      refine g_iconst O dX5_rowOf_5 (nI 3) rfl ?_
      refine g_icmp_gt O 46 dX5_rowOf_6 (by decide) (fun hc => ?_) (fun hc => ?_)
      · exact absurd ((nI_ltI (by omega) (by omega)).mp hc) (by omega)
      · refine g_iload_n O dX5_rowOf_9 rfl ?_
        refine g_aload_n O dX5_rowOf_10 rfl (by first | rfl | exact rf_ref _) ?_
        refine g_callV O (n := 0) (c_J9_length l E hh (hw.fr hF (by decide))) rfl rfl (hF _ _ hcell (show 0 ∉ [50] by decide)) dX5_rowOf_11 q1143 q385 q386 q51 q387 rfl (by decide +kernel) rfl rfl (by first | decide | omega) (by decide) (by first | exact Nat.le_of_ble_eq_true rfl | omega) (by first | exact Nat.le_of_ble_eq_true rfl | omega) (by first | exact Nat.le_of_ble_eq_true rfl | omega) (fun v h1 hp => ?_)
        obtain ⟨rfl, rfl⟩ := hp
        refine g_icmp_gt O 46 dX5_rowOf_14 (by decide) (fun hc2 => ?_) (fun hc2 => ?_)
        · exact absurd ((nI_ltI (by omega) (by omega)).mp hc2) (by omega)
        · refine g_aload_n O dX5_rowOf_17 rfl (by first | rfl | exact rf_ref _) ?_
          refine g_aload_n O dX5_rowOf_18 rfl (by first | rfl | exact rf_ref _) ?_
          refine g_iload_n O dX5_rowOf_19 rfl ?_
          refine g_callSN O (n := 2) (c_X1_endingOf l E _ (k := n + 1) (hw.fr hF (by decide)) hl (by omega)) rfl dX5_rowOf_20 q1144 q1145 q36 q1146 (by decide +kernel) rfl rfl (by first | decide | omega) (by decide) (by first | exact Nat.le_of_ble_eq_true rfl | omega) (by omega) (by omega) (fun v h2 hp => ?_)
          obtain ⟨q, rfl, hq, hF2⟩ := hp
          have hC2 := (hC.fr hF (by decide) (by simpa using z6) (by simpa using z7) (by simpa using z8)).fr hF2 (by decide) (by simpa using z6) (by simpa using z7) (by simpa using z8)
          have hR2 := hR.fr hF2 (by simpa using z8)
          have hel := ends_len (w := w) (k := n + 1) (by omega)
          have hC2' := hC2
          obtain ⟨t, f, c1, -⟩ := hC2'
          refine g_callSU2 O (n := 1) (c_X2_rowOf_E l E h2 z1 hC2 hq (by omega) (hb _)) rfl rfl c1 dX5_rowOf_23 (g_cwSU2 1 O.ts q1249 q1250 q144 q1177 q1227 q37 q1228 rfl (by decide) (by decide +kernel) (by decide) (by decide)) rfl rfl (by first | exact Nat.le_of_ble_eq_true rfl | omega) (by omega) (by omega) (fun v h3 hp => ?_)
          obtain ⟨⟨o2, rfl, hO⟩, rfl⟩ := hp
          have next : ∀ o3, RE E h2 lr cnt w (n + 1) o3 → Wg p l e (rmG 8 12 93) s m args below meth c E (MQ below (gQ E (fun v h' => (∃ o : Option Nat, v = some (va_rf o) ∧ RE E h' lr cnt w (many3 w) o) ∧ Fr [50] h h')) args s 12 93 (gA E)) 4 [some (.ref a), some (.ref b), some (va_rf o3), some (.int (nI (n + 1 + 1))), none] [] h2 ((n + 1) * 4) ((n + 1) * 31) := fun o3 hR3 => ih (n + 1) h2 o3 (by omega) hR3 (hF.tr hF2)
          rcases hO with ⟨rfl, hz⟩ | ⟨r, row, rfl, hz, hr, hrow⟩
          · refine g_astore O dX5_rowOf_26 (by first | rfl | exact rf_ref _) (by first | rfl | exact rf_lst ⟨rfl, rfl⟩) ?_
            refine g_aload O dX5_rowOf_28 rfl (by first | rfl | exact rf_ref _) ?_
            refine g_ifnonnull O 37 dX5_rowOf_30 (by decide) rfl (fun hc3 => ?_) (fun hc3_a hc3 => ?_)
            · refine g_aload_n O dX5_rowOf_33 rfl (by first | rfl | exact rf_ref _) ?_
              refine g_goto O 39 dX5_rowOf_34 (by decide) ?_
              refine g_astore_n O rfl dX5_rowOf_39 (by first | rfl | exact rf_ref _) (by first | rfl | exact rf_lst ⟨rfl, rfl⟩) ?_
              refine g_iinc O dX5_rowOf_40 rfl (by first | rfl | exact rf_lok rfl) ?_
              refine g_goto O 4 dX5_rowOf_43 (by decide) ?_
              refine Wg.fg 4 ?_
              refine Wg.L [some (.ref a), some (.ref b), some (va_rf o), some (.int (nI (n + 1 + 1))), none] (by rw [← nI_1 (n + 1)]; rfl) ?_
              refine Wg.wide ((n + 1) * 4) ((n + 1) * 31) (by omega) (by omega) ?_
              refine next o ?_
              unfold RE at hR2 ⊢
              rw [lastE, if_pos hz]
              exact hR2
            · cases hc3
          · refine g_astore O dX5_rowOf_26 (by first | rfl | exact rf_ref _) (by first | rfl | exact rf_lst ⟨rfl, rfl⟩) ?_
            refine g_aload O dX5_rowOf_28 rfl (by first | rfl | exact rf_ref _) ?_
            refine g_ifnonnull O 37 dX5_rowOf_30 (by decide) rfl (fun hc3 => ?_) (fun hc3_a hc3 => ?_)
            · cases hc3
            · refine g_aload O dX5_rowOf_37 rfl (by first | rfl | exact rf_ref _) ?_
              refine g_astore_n O rfl dX5_rowOf_39 (by first | rfl | exact rf_ref _) (by first | rfl | exact rf_lst ⟨rfl, rfl⟩) ?_
              refine g_iinc O dX5_rowOf_40 rfl (by first | rfl | exact rf_lok rfl) ?_
              refine g_goto O 4 dX5_rowOf_43 (by decide) ?_
              refine Wg.fg 4 ?_
              refine Wg.L [some (.ref a), some (.ref b), some (va_rf (some r)), some (.int (nI (n + 1 + 1))), none] (by rw [← nI_1 (n + 1)]; rfl) ?_
              refine Wg.wide ((n + 1) * 4) ((n + 1) * 31) (by omega) (by omega) ?_
              refine next (some r) ?_
              unfold RE
              rw [lastE, if_neg hz]
              exact ⟨r, row, rfl, hr, hrow⟩
  refine g_null O dX5_rowOf_0 ?_
  refine g_astore_n O rfl dX5_rowOf_1 (by first | rfl | exact rf_ref _) (by first | rfl | exact rf_lst ⟨rfl, rfl⟩) ?_
  refine g_iconst O dX5_rowOf_2 (nI 1) rfl ?_
  refine g_istore_n O rfl dX5_rowOf_3 rfl ?_
  exact loop (many3 w) 0 h none (by omega) rfl Fr.rf
/-- what a word weighs with a tag (cw, ce: the counts of words, of endings) -/
def wOf (cw ce : List Nat → Nat → Nat) (w : List Nat) (tag : Nat) : Nat :=
  if tot (cw w) 5 ≠ 0 then (if 4 * cw w tag + 1 < 9 then 4 * cw w tag + 1 else 9)
  else match lastE ce w (many3 w) with
    | none => 1
    | some k => if 2 * ce (ends w k) tag + 1 < 9 then 2 * ce (ends w k) tag + 1 else 9
theorem wOf_w {cw ce : List Nat → Nat → Nat} {w : List Nat} {tag : Nat} (h : tot (cw w) 5 ≠ 0) : wOf cw ce w tag = if 4 * cw w tag + 1 < 9 then 4 * cw w tag + 1 else 9 := by
  unfold wOf
  exact if_pos h
theorem wOf_n {cw ce : List Nat → Nat → Nat} {w : List Nat} {tag : Nat} (h : tot (cw w) 5 = 0) (hk : lastE ce w (many3 w) = none) : wOf cw ce w tag = 1 := by
  unfold wOf
  refine (if_neg (fun z => z h)).trans ?_
  rw [hk]
theorem wOf_e {cw ce : List Nat → Nat → Nat} {w : List Nat} {tag k : Nat} (h : tot (cw w) 5 = 0) (hk : lastE ce w (many3 w) = some k) : wOf cw ce w tag = if 2 * ce (ends w k) tag + 1 < 9 then 2 * ce (ends w k) tag + 1 else 9 := by
  unfold wOf
  refine (if_neg (fun z => z h)).trans ?_
  rw [hk]
theorem lastE_tot {ce : List Nat → Nat → Nat} {w : List Nat} {n k : Nat} (h : lastE ce w n = some k) (hb : ∀ w, tot (ce w) 5 ≤ 1000000) {j : Nat} (hj : j < 5) : ce (ends w k) j ≤ 1000000 := Nat.le_trans (tot_at hj) (hb _)
theorem c_X1_weightOf (l : Launch) (E : GE) (h : HV) {lT T aw ae law lae lmw lrw lme lre b tag : Nat} {w : List Nat} {cw ce : List Nat → Nat → Nat} {x2 x3 x4 x5 x6 x7 x8 : Value} (hT : h T = some (lT, .inr (0, [.ref aw, .ref ae, x2, x3, x4, x5, x6, x7, x8]))) (u1 : lT ≠ 50) (u2 : lae ≠ 50) (u3 : lme ≠ 50) (u4 : lre ≠ 50) (u5 : lrw ≠ 0) (u6 : lre ≠ 0) (hCw : CO E h 1 law aw lmw lrw cw) (hCe : CO E h 2 lae ae lme lre ce) (hw : Str E h b w) (hl : w.length ≤ 7) (ht : tag < 5) (hbw : ∀ w, tot (cw w) 5 ≤ 1000000) (hbe : ∀ w, tot (ce w) 5 ≤ 1000000) : Cg l E yX1_weightOf cX1_weightOf 4 (some .int) 9 12 93 [.ref T, .ref b, .int (nI tag)] h (fun v h' => v = some (.int (nI (wOf cw ce w tag))) ∧ Fr [50] h h') := by
  have hCw' := hCw
  obtain ⟨tw, fw, cw1, -⟩ := hCw'
  have hCe' := hCe
  obtain ⟨te, fe, ce1, -⟩ := hCe'
  refine Cg.of (by first | exact plainFor_of_name (by decide) | decide +kernel) [some (.ref T), some (.ref b), some (.int (nI tag)), none] (Nat.le_of_ble_eq_true rfl) rfl ?_
  intro p e s m args below meth c O
  refine g_aload_n O dX1_weightOf_0 rfl (by first | rfl | exact rf_ref _) ?_
  refine g_get O 0 0 rfl hT dX1_weightOf_1 q178 rfl (by decide) rfl rfl ?_
  refine g_aload_n O dX1_weightOf_4 rfl (by first | rfl | exact rf_ref _) ?_
  refine g_callU O (n := 1) (c_X2_rowOf_W l E h u5 hCw hw hl (hbw w)) rfl rfl cw1 dX1_weightOf_5 (va_cwU 1 O.ts (lw_U q1223 q1224 q1226 q1227 q37 q1228) rfl rfl rfl rfl (by decide +kernel) (g_rm (by decide) (by decide))) rfl rfl (by first | exact Nat.le_of_ble_eq_true rfl | omega) (by first | exact Nat.le_of_ble_eq_true rfl | omega) (by first | exact Nat.le_of_ble_eq_true rfl | omega) (fun v h1 hp => ?_)
  obtain ⟨⟨o, rfl, hO⟩, rfl⟩ := hp
  rcases hO with ⟨rfl, hz⟩ | ⟨r, row, rfl, hz, hr, hrow⟩
  · refine g_astore_n O rfl dX1_weightOf_8 (by first | rfl | exact rf_ref _) (by first | rfl | exact rf_lst ⟨rfl, rfl⟩) ?_
    refine g_aload_n O dX1_weightOf_9 rfl (by first | rfl | exact rf_ref _) ?_
    refine g_ifnull O 23 dX1_weightOf_10 (by decide) rfl (fun hc => ?_) (fun hc_a hc => ?_)
    · refine g_aload_n O dX1_weightOf_23 rfl (by first | rfl | exact rf_ref _) ?_
      refine g_get O 0 1 rfl hT dX1_weightOf_24 q179 rfl (by decide) rfl rfl ?_
      refine g_aload_n O dX1_weightOf_27 rfl (by first | rfl | exact rf_ref _) ?_
      refine g_callV O (n := 1) (c_X5_rowOf l E h u6 u2 u3 u4 hCe hw hl hbe) rfl rfl ce1 dX1_weightOf_28 q1245 q1246 q1247 q42 q1248 rfl (by decide +kernel) rfl rfl (by first | decide | omega) (by decide) (by first | exact Nat.le_of_ble_eq_true rfl | omega) (by first | exact Nat.le_of_ble_eq_true rfl | omega) (by first | exact Nat.le_of_ble_eq_true rfl | omega) (fun v h1 hp => ?_)
      obtain ⟨⟨o, rfl, hO⟩, hF⟩ := hp
      unfold RE at hO
      cases hk : lastE ce w (many3 w) with
      | none =>
        rw [hk] at hO
        obtain rfl : o = none := hO
        refine g_astore_n O rfl dX1_weightOf_31 (by first | rfl | exact rf_ref _) (by first | rfl | exact rf_lst ⟨rfl, rfl⟩) ?_
        refine g_aload_n O dX1_weightOf_32 rfl (by first | rfl | exact rf_ref _) ?_
        refine g_ifnonnull O 40 dX1_weightOf_33 (by decide) rfl (fun hc2 => ?_) (fun hc2_a hc2 => ?_)
        · refine g_iconst O dX1_weightOf_36 (nI 1) rfl ?_
          refine g_goto O 49 dX1_weightOf_37 (by decide) ?_
          exact g_iret O dX1_weightOf_49 (by first | exact Nat.le_of_ble_eq_true rfl | omega) (by first | exact Nat.le_of_ble_eq_true rfl | omega) ⟨by rw [wOf_n hz hk], hF⟩
        · cases hc2
      | some k =>
        rw [hk] at hO
        obtain ⟨r, row, rfl, hr, hrow⟩ := hO
        refine g_astore_n O rfl dX1_weightOf_31 (by first | rfl | exact rf_ref _) (by first | rfl | exact rf_lst ⟨rfl, rfl⟩) ?_
        refine g_aload_n O dX1_weightOf_32 rfl (by first | rfl | exact rf_ref _) ?_
        refine g_ifnonnull O 40 dX1_weightOf_33 (by decide) rfl (fun hc2 => ?_) (fun hc2_a hc2 => ?_)
        · cases hc2
        · refine g_aload_n O dX1_weightOf_40 rfl (by first | rfl | exact rf_ref _) ?_
          refine g_get O 0 1 rfl (hF _ _ hT (by simpa using u1)) dX1_weightOf_41 q179 rfl (by decide) rfl rfl ?_
          refine g_aload_n O dX1_weightOf_44 rfl (by first | rfl | exact rf_ref _) ?_
          refine g_iload_n O dX1_weightOf_45 rfl ?_
          refine g_callU O (n := 2) (c_X3_weight_E l E h1 (hF _ _ ce1 (by simpa using u2)) hr hrow ht (lastE_tot hk hbe ht)) rfl rfl (hF _ _ ce1 (by simpa using u2)) dX1_weightOf_46 (va_cwU 2 O.ts (lw_U q1251 q1252 q1253 q1233 q38 q1234) rfl rfl rfl rfl (by decide +kernel) (g_rm (by decide) (by decide))) rfl rfl (by first | exact Nat.le_of_ble_eq_true rfl | omega) (by first | exact Nat.le_of_ble_eq_true rfl | omega) (by first | exact Nat.le_of_ble_eq_true rfl | omega) (fun v h2 hp => ?_)
          obtain ⟨rfl, rfl⟩ := hp
          exact g_iret O dX1_weightOf_49 (by first | exact Nat.le_of_ble_eq_true rfl | omega) (by first | exact Nat.le_of_ble_eq_true rfl | omega) ⟨by rw [wOf_e hz hk], hF⟩
    · cases hc
  · refine g_astore_n O rfl dX1_weightOf_8 (by first | rfl | exact rf_ref _) (by first | rfl | exact rf_lst ⟨rfl, rfl⟩) ?_
    refine g_aload_n O dX1_weightOf_9 rfl (by first | rfl | exact rf_ref _) ?_
    refine g_ifnull O 23 dX1_weightOf_10 (by decide) rfl (fun hc => ?_) (fun hc_a hc => ?_)
    · cases hc
    · refine g_aload_n O dX1_weightOf_13 rfl (by first | rfl | exact rf_ref _) ?_
      refine g_get O 0 0 rfl hT dX1_weightOf_14 q178 rfl (by decide) rfl rfl ?_
      refine g_aload_n O dX1_weightOf_17 rfl (by first | rfl | exact rf_ref _) ?_
      refine g_iload_n O dX1_weightOf_18 rfl ?_
      refine g_callU O (n := 2) (c_X3_weight_W l E h cw1 hr hrow ht (Nat.le_trans (tot_at ht) (hbw w))) rfl rfl cw1 dX1_weightOf_19 (va_cwU 2 O.ts (lw_U q1229 q1230 q1232 q1233 q38 q1234) rfl rfl rfl rfl (by decide +kernel) (g_rm (by decide) (by decide))) rfl rfl (by first | exact Nat.le_of_ble_eq_true rfl | omega) (by first | exact Nat.le_of_ble_eq_true rfl | omega) (by first | exact Nat.le_of_ble_eq_true rfl | omega) (fun v h2 hp => ?_)
      obtain ⟨rfl, rfl⟩ := hp
      exact g_iret O dX1_weightOf_22 (by first | exact Nat.le_of_ble_eq_true rfl | omega) (by first | exact Nat.le_of_ble_eq_true rfl | omega) ⟨by rw [wOf_w hz], Fr.rf⟩
