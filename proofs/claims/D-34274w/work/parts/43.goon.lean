set_option maxRecDepth 100000
/-! All.goOn (printed by tools/gen_goon.py) -/
abbrev KS : Type := (Nat → Nat) × List (List Nat × Nat)
def fold5 (g : Nat → KS → KS) : Nat → KS → KS
  | 0, z => z
  | t + 1, z => g t (fold5 g t z)
/-- the sums and the kept paths behind all paths that go on from pre (d places are left) -/
def gS (wt st : Nat → Nat → Nat) (fi : Nat → Nat) (pl : Nat) : Nat → List Nat → Nat → KS → KS
  | 0, pre, w, z => (fu z.1 (pre.getD pl 0) (z.1 (pre.getD pl 0) + w), kp z.2 (pre, w))
  | d + 1, pre, w, z => fold5 (fun t z => if 0 < w * (wt pre.length t * sOf st fi pre.getLast? t) then gS wt st fi pl d (pre ++ [t]) (w * (wt pre.length t * sOf st fi pre.getLast? t)) z else z) 5 z
def kOK (bs : List (List Nat × Nat)) : Prop := bs.length ≤ 10 ∧ ∀ b ∈ bs, b.2 < 2 ^ 63
theorem kp_ok {bs : List (List Nat × Nat)} {x : List Nat × Nat} (h : kOK bs) (hx : x.2 < 2 ^ 63) : kOK (kp bs x) := by
  unfold kp
  split
  · refine ⟨by rw [List.length_take]; omega, fun b hb => ?_⟩
    have hb := List.mem_of_mem_take hb
    rcases List.mem_append.mp hb with y | y
    · exact h.2 b (List.mem_of_mem_take y)
    · rcases List.mem_cons.mp y with y | y
      · rw [y]; exact hx
      · exact h.2 b (List.mem_of_mem_drop y)
  · exact h
theorem tl_succ {f : Nat → Nat} {k : Nat} : tl f (k + 1) = tl f k ++ [f k] := by
  unfold tl
  rw [List.range_succ, List.map_append]
  rfl
theorem tl_fu {f : Nat → Nat} {k t : Nat} : tl (fu f k t) (k + 1) = tl f k ++ [t] := by
  rw [tl_succ, fu_self]
  congr 1
  unfold tl
  refine List.map_congr_left (fun j hj => fu_ne ?_)
  have := List.mem_range.mp hj
  omega
theorem tl_pre {f : Nat → Nat} {k t : Nat} {pre : List Nat} (hl : pre.length = k) (h : tl f (k + 1) = pre ++ [t]) : tl f k = pre := by
  rw [tl_succ] at h
  exact (List.append_inj h (by rw [tl_len, hl])).1
theorem VX.set {E : GE} {h : HV} {ls a n i v : Nat} {f : Nat → Nat} {row : Nat → Int32} (hq : ∀ j, j < n → row j = nI (f j)) : VX E (hup h a (ls, cInts E n (upd row i (nI v)))) ls a n (fu f i v) := by
  refine ⟨_, hup_self, fun j hj => ?_⟩
  unfold fu upd
  by_cases h : j = i
  · rw [if_pos h, if_pos h]
  · rw [if_neg h, if_neg h]
    exact hq j hj
theorem pow63 {i : Nat} (h : i ≤ 5) : 63 ^ i ≤ 992436543 := by
  have : 63 ^ i ≤ 63 ^ 5 := Nat.pow_le_pow_right (by decide) h
  exact this
theorem ncap15 {k : Nat} (h : k ≤ 10) : ncap k ≤ 15 := by
  unfold ncap
  split
  · decide
  · split <;> omega
theorem c_X12_goOn (l : Launch) (E : GE) {x tr pl n T : Nat} {cw ce : List Nat → Nat → Nat} {st : Nat → Nat → Nat} {fi : Nat → Nat} {ws : List (List Nat)} {lk : Nat → Option Nat} {wt : Nat → Nat → Nat} (hwt : ∀ i j, wt i j ≤ 9) (hn : n ≤ 5) (hpl : pl < n) : ∀ d, ∀ (i w cap : Nat) (pre : List Nat) (h : HV) (tsf : Nat → Nat) (z : KS), i + d = n → GC E h → AP E h x tr pl n tsf z.1 cap z.2 → TR E h tr T n wt (fun i j => sOf st fi (some i) j) → TQ E h T cw ce st fi ws lk → cap ≤ 15 → tl tsf i = pre → (∀ j, j < n → tsf j < 5) → kOK z.2 → w ≤ 63 ^ i → Cg l E yX12_goOn cX12_goOn 7 none (8 + (d)) (3 * 5 ^ (d)) (23 * 5 ^ (d)) [.ref x, .int (nI i), .long (lN w)] h (fun v h' => v = none ∧ (∃ tsf' cap', AP E h' x tr pl n tsf' (gS wt st fi pl (d) pre w z).1 cap' (gS wt st fi pl (d) pre w z).2 ∧ cap' ≤ 15 ∧ tl tsf' i = pre ∧ (∀ j, j < n → tsf' j < 5) ∧ kOK (gS wt st fi pl (d) pre w z).2) ∧ Fr [31, 32, 34] h h') := by
  intro d
  induction d with
  | zero =>
    intro i w cap pre h tsf z hi hG A R Q hcap hpre htag hk hw
    obtain rfl : i = n := by omega
    obtain ⟨aT, aB, aS, li, c1, c2, c3, c4, c5, c6⟩ := A
    obtain ⟨row, v1, v2⟩ := c2
    obtain ⟨rowS, s1, s2⟩ := c6
    obtain ⟨aW, aS2, r1, -⟩ := R
    have hp63 := pow63 hn
    have htp := htag pl hpl
    have hgd : pre.getD pl 0 = tsf pl := by
      rw [← hpre, List.getD_eq_getElem?_getD]
      unfold tl
      rw [List.getElem?_map, List.getElem?_range hpl]
      rfl
    refine Cg.of (by first | exact plainFor_of_name (by decide) | decide +kernel) [some (.ref x), some (.int (nI i)), some (.long (lN w)), none, none, none, none] (Nat.le_of_ble_eq_true rfl) rfl ?_
    intro p e s m args below meth c O
    refine g_iload_n O dX12_goOn_0 rfl ?_
    refine g_aload_n O dX12_goOn_1 rfl (by first | rfl | exact rf_ref _) ?_
    refine g_get O 11 0 rfl c1 dX12_goOn_2 q1453 rfl (by decide) rfl rfl ?_
    refine g_get O 10 0 rfl r1 dX12_goOn_5 q1288 rfl (by decide) rfl rfl ?_
    refine g_icmp_ne O 35 dX12_goOn_8 (by decide) (fun hc => ?_) (fun hc => ?_)
    · exact absurd rfl hc
    · refine g_aload_n O dX12_goOn_11 rfl (by first | rfl | exact rf_ref _) ?_
      refine g_get O 11 4 rfl c1 dX12_goOn_12 q1458 rfl (by decide) rfl rfl ?_
      refine g_aload_n O dX12_goOn_15 rfl (by first | rfl | exact rf_ref _) ?_
      refine g_get O 11 1 rfl c1 dX12_goOn_16 q1454 rfl (by decide) rfl rfl ?_
      refine g_aload_n O dX12_goOn_19 rfl (by first | rfl | exact rf_ref _) ?_
      refine g_get O 11 3 rfl c1 dX12_goOn_20 q1457 rfl (by decide) rfl rfl ?_
      refine g_iald O pl rfl hpl (by omega) v1 dX12_goOn_23 ?_
      rw [v2 pl hpl]
      refine g_dup2 O dX12_goOn_24 rfl rfl ?_
      refine g_lald O (tsf pl) rfl htp (by decide) s1 dX12_goOn_25 ?_
      rw [s2 _ htp]
      refine g_lload_n O dX12_goOn_26 rfl ?_
      refine g_ladd O dX12_goOn_27 ?_
      rw [lN_add]
      have F2 : Fr [34] h (hup h aS (34, cLongs E 5 (vp_updL rowS (tsf pl) (lN (z.1 (tsf pl) + w))))) := Fr.rf.up s1 (by decide)
      have A2 : AP E (hup h aS (34, cLongs E 5 (vp_updL rowS (tsf pl) (lN (z.1 (tsf pl) + w))))) x tr pl i tsf (fu z.1 (tsf pl) (z.1 (tsf pl) + w)) cap z.2 := ⟨aT, aB, aS, li, F2 _ _ c1 (show 30 ∉ [34] by decide), ⟨row, F2 _ _ v1 (show 31 ∉ [34] by decide), v2⟩, c3.fr F2 (by decide) (by decide), c4, fun k b e => (by obtain ⟨q, e1, e2⟩ := c5 k b e; exact ⟨q, e1, e2.fr F2 (by decide) (by decide)⟩), VL.set s2 rfl⟩
      refine g_last O (tsf pl) rfl htp (by decide) s1 (by decide) dX12_goOn_28 ?_
      refine g_aload_n O dX12_goOn_29 rfl (by first | rfl | exact rf_ref _) ?_
      refine g_lload_n O dX12_goOn_30 rfl ?_
      refine g_callV O (n := 1) (c_X12_keep l E _ 1 15 (hG.fr F2 (by decide)) A2 hn htag (by omega : w < 2 ^ 63) hk.2 hk.1 (by omega) (fun y => ⟨Nat.le_refl 1, ncap15 (by have := hk.1; omega)⟩)) rfl rfl (F2 _ _ c1 (show 30 ∉ [34] by decide)) dX12_goOn_31 q1475 q1477 qs18 q80 q1478 rfl (by decide +kernel) rfl rfl (by first | decide | omega) (by decide) (by first | exact Nat.le_of_ble_eq_true rfl | omega) (by first | exact Nat.le_of_ble_eq_true rfl | omega) (by first | exact Nat.le_of_ble_eq_true rfl | omega) (fun v h2 hp => ?_)
      obtain ⟨rfl, ⟨cap', A3, hc3⟩, F3⟩ := hp
      rw [hpre] at A3
      refine g_vret O dX12_goOn_34 (by omega) (by omega) ⟨rfl, ⟨tsf, cap', ?_, ?_, hpre, htag, ?_⟩, (F2.mono (by decide)).tr (F3.mono (by decide))⟩
      · rw [gS, hgd]; exact A3
      · rcases hc3 with y | ⟨y, y2⟩
        · omega
        · rw [y2]; exact ncap15 (by have := hk.1; omega)
      · rw [gS]; exact kp_ok hk (by show w < 2 ^ 63; omega)
  | succ d ih =>
    intro i w cap pre h tsf z hi hG A R Q hcap hpre htag hk hw
    have hp63 := pow63 (i := i) (by omega)
    have hplen : pre.length = i := by rw [← hpre, tl_len]
    have A0 := A
    have R0 := R
    obtain ⟨aT, aB, aS, li, c1, -⟩ := A
    obtain ⟨aW, aS2, r1, -⟩ := R
    have e5 : 5 ^ (d + 1) = 5 ^ d * 5 := Nat.pow_succ 5 d
    refine Cg.of (by first | exact plainFor_of_name (by decide) | decide +kernel) [some (.ref x), some (.int (nI i)), some (.long (lN w)), none, none, none, none] (Nat.le_of_ble_eq_true rfl) rfl ?_
    intro p e s m args below meth c O
    have loop : ∀ d2 t hh tsf2 cap2, t + d2 = 5 → Fr [31, 32, 34] h hh → AP E hh x tr pl n tsf2 (fold5 (fun t z => if 0 < w * (wt pre.length t * sOf st fi pre.getLast? t) then gS wt st fi pl d (pre ++ [t]) (w * (wt pre.length t * sOf st fi pre.getLast? t)) z else z) t z).1 cap2 (fold5 (fun t z => if 0 < w * (wt pre.length t * sOf st fi pre.getLast? t) then gS wt st fi pl d (pre ++ [t]) (w * (wt pre.length t * sOf st fi pre.getLast? t)) z else z) t z).2 → cap2 ≤ 15 → tl tsf2 i = pre → (∀ j, j < n → tsf2 j < 5) → kOK (fold5 (fun t z => if 0 < w * (wt pre.length t * sOf st fi pre.getLast? t) then gS wt st fi pl d (pre ++ [t]) (w * (wt pre.length t * sOf st fi pre.getLast? t)) z else z) t z).2 → Wg p l e (rmG (8 + (d + 1)) (3 * 5 ^ (d + 1)) (23 * 5 ^ (d + 1))) s m args below meth c E (MQ below (gQ E (fun v h' => v = none ∧ (∃ tsf' cap', AP E h' x tr pl n tsf' (gS wt st fi pl (d + 1) pre w z).1 cap' (gS wt st fi pl (d + 1) pre w z).2 ∧ cap' ≤ 15 ∧ tl tsf' i = pre ∧ (∀ j, j < n → tsf' j < 5) ∧ kOK (gS wt st fi pl (d + 1) pre w z).2) ∧ Fr [31, 32, 34] h h')) args s (3 * 5 ^ (d + 1)) (23 * 5 ^ (d + 1)) (gA E)) 38 [some (.ref x), some (.int (nI i)), some (.long (lN w)), none, some (.int (nI t)), none, none] [] hh (t * (3 * 5 ^ d)) (t * (23 * 5 ^ d)) := by
      intro d2
      induction d2 with
      | zero =>
        intro t hh tsf2 cap2 ht hF A hcap hpre htag hk
        obtain rfl : t = 5 := by omega
        refine g_iload O dX12_goOn_38 rfl ?_
        refine g_iconst O dX12_goOn_40 (nI 5) rfl ?_
        refine g_icmp_ge O 104 dX12_goOn_41 (by decide) (fun hc => ?_) (fun hc => ?_)
        · refine g_vret O dX12_goOn_104 (by omega) (by omega) ⟨rfl, ⟨tsf2, cap2, A, hcap, hpre, htag, hk⟩, hF⟩
        · exact absurd (Int32.le_refl _) hc
      | succ d2 ih2 =>
        intro t hh tsf2 cap2 ht hF A hcap hpre htag hk
        have A1 := A
        have hb3 : t * (3 * 5 ^ d) ≤ 4 * (3 * 5 ^ d) := Nat.mul_le_mul_right _ (by omega)
        have hb23 : t * (23 * 5 ^ d) ≤ 4 * (23 * 5 ^ d) := Nat.mul_le_mul_right _ (by omega)
        obtain ⟨aT, aB, aS, li, c1, ⟨row, v1, v2⟩, c3, c4, c5, c6⟩ := A
        have Rh := R0.fr hF (by decide) (by decide) (by decide)
        have Qh := Q.fr hF (by decide)
        have r1h := hF _ _ r1 (show 20 ∉ [31, 32, 34] by decide)
        have a7 := sOf_le (st := st) (fi := fi) (from' := pre.getLast?) (to := t)
        have a9 := hwt i t
        have hA63 : wt i t * sOf st fi pre.getLast? t ≤ 63 := Nat.mul_le_mul a9 a7.1
        have hits : w * (wt i t * sOf st fi pre.getLast? t) ≤ 63 ^ (i + 1) := by rw [Nat.pow_succ]; exact Nat.mul_le_mul hw hA63
        have hp63' := pow63 (i := i + 1) (by omega)
        have hlast2 : i ≠ 0 → pre.getLast? = some (tsf2 (i - 1)) := fun hi0 => by
          obtain ⟨k, rfl⟩ : ∃ k, i = k + 1 := ⟨i - 1, by omega⟩
          rw [← hpre, tl_succ]
          simp
        have hlast : ∀ k, pre.getLast? = some k → k < 5 := fun k hk => by
          by_cases hi0 : i = 0
          · have hp0 : pre = [] := List.length_eq_zero_iff.mp (by omega)
            rw [hp0] at hk
            cases hk
          · rw [hlast2 hi0] at hk
            cases hk
            exact htag _ (by omega)
        have next : ∀ hh2 tsf3 cap3 L5 L6, Fr [31, 32, 34] h hh2 → AP E hh2 x tr pl n tsf3 (fold5 (fun t z => if 0 < w * (wt pre.length t * sOf st fi pre.getLast? t) then gS wt st fi pl d (pre ++ [t]) (w * (wt pre.length t * sOf st fi pre.getLast? t)) z else z) (t + 1) z).1 cap3 (fold5 (fun t z => if 0 < w * (wt pre.length t * sOf st fi pre.getLast? t) then gS wt st fi pl d (pre ++ [t]) (w * (wt pre.length t * sOf st fi pre.getLast? t)) z else z) (t + 1) z).2 → cap3 ≤ 15 → tl tsf3 i = pre → (∀ j, j < n → tsf3 j < 5) → kOK (fold5 (fun t z => if 0 < w * (wt pre.length t * sOf st fi pre.getLast? t) then gS wt st fi pl d (pre ++ [t]) (w * (wt pre.length t * sOf st fi pre.getLast? t)) z else z) (t + 1) z).2 → Wg p l e (rmG (8 + (d + 1)) (3 * 5 ^ (d + 1)) (23 * 5 ^ (d + 1))) s m args below meth c E (MQ below (gQ E (fun v h' => v = none ∧ (∃ tsf' cap', AP E h' x tr pl n tsf' (gS wt st fi pl (d + 1) pre w z).1 cap' (gS wt st fi pl (d + 1) pre w z).2 ∧ cap' ≤ 15 ∧ tl tsf' i = pre ∧ (∀ j, j < n → tsf' j < 5) ∧ kOK (gS wt st fi pl (d + 1) pre w z).2) ∧ Fr [31, 32, 34] h h')) args s (3 * 5 ^ (d + 1)) (23 * 5 ^ (d + 1)) (gA E)) 98 [some (.ref x), some (.int (nI i)), some (.long (lN w)), none, some (.int (nI t)), L5, L6] [] hh2 (t * (3 * 5 ^ d) + 3 * 5 ^ d) (t * (23 * 5 ^ d) + 23 * 5 ^ d) := by
          intro hh2 tsf3 cap3 L5 L6 hF2 A2 hc2 hp2 ht2 hk2
          refine Wg.fg 5 (Wg.fg 6 ?_)
          refine g_iinc O dX12_goOn_98 rfl (by first | rfl | exact rf_lok rfl) ?_
          refine g_goto O 38 dX12_goOn_101 (by decide) ?_
          refine Wg.L [some (.ref x), some (.int (nI i)), some (.long (lN w)), none, some (.int (nI (t + 1))), none, none] (by rw [← nI_1 t]; rfl) ?_
          refine Wg.wide ((t + 1) * (3 * 5 ^ d)) ((t + 1) * (23 * 5 ^ d)) (Nat.le_of_eq (Nat.succ_mul t (3 * 5 ^ d)).symm) (Nat.le_of_eq (Nat.succ_mul t (23 * 5 ^ d)).symm) ?_
          exact ih2 (t + 1) hh2 tsf3 cap3 (by omega) hF2 A2 hc2 hp2 ht2 hk2
        have call : Wg p l e (rmG (8 + (d + 1)) (3 * 5 ^ (d + 1)) (23 * 5 ^ (d + 1))) s m args below meth c E (MQ below (gQ E (fun v h' => v = none ∧ (∃ tsf' cap', AP E h' x tr pl n tsf' (gS wt st fi pl (d + 1) pre w z).1 cap' (gS wt st fi pl (d + 1) pre w z).2 ∧ cap' ≤ 15 ∧ tl tsf' i = pre ∧ (∀ j, j < n → tsf' j < 5) ∧ kOK (gS wt st fi pl (d + 1) pre w z).2) ∧ Fr [31, 32, 34] h h')) args s (3 * 5 ^ (d + 1)) (23 * 5 ^ (d + 1)) (gA E)) 66 [some (.ref x), some (.int (nI i)), some (.long (lN w)), none, some (.int (nI t)), none, none] [.int (nOf pre.getLast?), .int (nI i), .ref tr, .long (lN w)] hh (t * (3 * 5 ^ d)) (t * (23 * 5 ^ d)) := by
          refine g_iload O dX12_goOn_66 rfl ?_
          refine g_callV O (n := 3) (c_X9_at l E hh pre.getLast? Rh Qh hwt hn (by omega : i < n) (by omega : t < 5) hlast) rfl rfl r1h dX12_goOn_68 q1514 q1312 q1313 q75 q1314 rfl (by decide +kernel) rfl rfl (by first | decide | omega) (by decide) (by first | exact Nat.le_of_ble_eq_true rfl | omega) (by first | exact Nat.le_of_ble_eq_true rfl | omega) (by first | exact Nat.le_of_ble_eq_true rfl | omega) (fun v h1 hp => ?_)
          obtain ⟨rfl, rfl⟩ := hp
          refine g_lmul O dX12_goOn_71 ?_
          rw [lN_mul]
          refine g_lstore O dX12_goOn_72 rfl ?_
          refine g_lload O dX12_goOn_74 rfl ?_
          refine g_lconst O dX12_goOn_76 (lN 0) rfl ?_
          refine g_lcmp O dX12_goOn_77 ?_
          have hfold : fold5 (fun t z => if 0 < w * (wt pre.length t * sOf st fi pre.getLast? t) then gS wt st fi pl d (pre ++ [t]) (w * (wt pre.length t * sOf st fi pre.getLast? t)) z else z) (t + 1) z = if 0 < w * (wt i t * sOf st fi pre.getLast? t) then gS wt st fi pl d (pre ++ [t]) (w * (wt i t * sOf st fi pre.getLast? t)) (fold5 (fun t z => if 0 < w * (wt pre.length t * sOf st fi pre.getLast? t) then gS wt st fi pl d (pre ++ [t]) (w * (wt pre.length t * sOf st fi pre.getLast? t)) z else z) t z) else (fold5 (fun t z => if 0 < w * (wt pre.length t * sOf st fi pre.getLast? t) then gS wt st fi pl d (pre ++ [t]) (w * (wt pre.length t * sOf st fi pre.getLast? t)) z else z) t z) := by rw [← hplen]; rfl
          rcases lcmp_cases (a := w * (wt i t * sOf st fi pre.getLast? t)) (b := 0) (by omega) (by decide) with ⟨y1, y2⟩ | ⟨y1, y2⟩ | ⟨y1, y2⟩
          · omega
          · rw [y1]
            refine g_if_le O 98 dX12_goOn_78 (by decide) (fun hc2 => ?_) (fun hc2 => ?_)
            · refine Wg.wide (t * (3 * 5 ^ d) + 3 * 5 ^ d) (t * (23 * 5 ^ d) + 23 * 5 ^ d) (by omega) (by omega) ?_
              rw [if_neg (by omega)] at hfold
              exact next hh tsf2 cap2 _ _ hF (by rw [hfold]; exact A1) hcap hpre htag (by rw [hfold]; exact hk)
            · exact absurd (by decide) hc2
          · rw [y1]
            rw [if_pos y2] at hfold
            refine g_if_le O 98 dX12_goOn_78 (by decide) (fun hc2 => ?_) (fun hc2 => ?_)
            · exact absurd hc2 (by decide)
            · refine g_aload_n O dX12_goOn_81 rfl (by first | rfl | exact rf_ref _) ?_
              refine g_get O 11 1 rfl c1 dX12_goOn_82 q1454 rfl (by decide) rfl rfl ?_
              refine g_iload_n O dX12_goOn_85 rfl ?_
              refine g_iload O dX12_goOn_86 rfl ?_
              refine g_iast O i rfl (by omega) (by omega) v1 (by decide) dX12_goOn_88 ?_
              have F2 : Fr [31] hh (hup hh aT (31, cInts E n (upd row i (nI t)))) := Fr.rf.up v1 (by decide)
              have A2 : AP E (hup hh aT (31, cInts E n (upd row i (nI t)))) x tr pl n (fu tsf2 i t) (fold5 (fun t z => if 0 < w * (wt pre.length t * sOf st fi pre.getLast? t) then gS wt st fi pl d (pre ++ [t]) (w * (wt pre.length t * sOf st fi pre.getLast? t)) z else z) t z).1 cap2 (fold5 (fun t z => if 0 < w * (wt pre.length t * sOf st fi pre.getLast? t) then gS wt st fi pl d (pre ++ [t]) (w * (wt pre.length t * sOf st fi pre.getLast? t)) z else z) t z).2 := ⟨aT, aB, aS, li, F2 _ _ c1 (show 30 ∉ [31] by decide), VX.set v2, c3.fr F2 (by decide) (by decide), c4, fun k b e => (by obtain ⟨q, e1, e2⟩ := c5 k b e; exact ⟨q, e1, e2.fr F2 (by decide) (by decide)⟩), c6.fr F2 (by decide)⟩
              refine g_aload_n O dX12_goOn_89 rfl (by first | rfl | exact rf_ref _) ?_
              refine g_iload_n O dX12_goOn_90 rfl ?_
              refine g_iconst O dX12_goOn_91 (nI 1) rfl ?_
              refine g_iadd O dX12_goOn_92 ?_
              rw [nI_add]
              have F02 := hF.tr (F2.mono (S' := [31, 32, 34]) (by decide))
              have hg := ih (i + 1) (w * (wt i t * sOf st fi pre.getLast? t)) cap2 (pre ++ [t]) _ (fu tsf2 i t) (fold5 (fun t z => if 0 < w * (wt pre.length t * sOf st fi pre.getLast? t) then gS wt st fi pl d (pre ++ [t]) (w * (wt pre.length t * sOf st fi pre.getLast? t)) z else z) t z) (by omega) (hG.fr F02 (by decide)) A2 (Rh.fr F2 (by decide) (by decide) (by decide)) (Qh.fr F2 (by decide)) hcap (by rw [tl_fu, hpre]) (fun j hj => by unfold fu; split; omega; exact htag j hj) hk hits
              refine g_lload O dX12_goOn_93 rfl ?_
              refine g_callV O (n := 2) hg rfl rfl (F2 _ _ c1 (show 30 ∉ [31] by decide)) dX12_goOn_95 q1515 q1472 q1473 q80 q1474 rfl (by decide +kernel) rfl rfl (by first | decide | omega) (by decide) (by first | exact Nat.le_of_ble_eq_true rfl | omega) (by rw [e5]; have : t * (3 * 5 ^ d) ≤ 4 * (3 * 5 ^ d) := Nat.mul_le_mul_right _ (by omega); omega) (by rw [e5]; have : t * (23 * 5 ^ d) ≤ 4 * (23 * 5 ^ d) := Nat.mul_le_mul_right _ (by omega); omega) (fun v h3 hp => ?_)
              obtain ⟨rfl, ⟨tsf3, cap3, A3, g1, g2, g3, g4⟩, F3⟩ := hp
              exact next _ tsf3 cap3 _ _ (F02.tr F3) (by rw [hfold]; exact A3) g1 (tl_pre hplen g2) g3 (by rw [hfold]; exact g4)
        refine g_iload O dX12_goOn_38 rfl ?_
        refine g_iconst O dX12_goOn_40 (nI 5) rfl ?_
        refine g_icmp_ge O 104 dX12_goOn_41 (by decide) (fun hc => ?_) (fun hc => ?_)
        · exact absurd ((nI_leI (by decide) (by omega)).mp hc) (by omega)
        · refine g_lload_n O dX12_goOn_44 rfl ?_
          refine g_aload_n O dX12_goOn_45 rfl (by first | rfl | exact rf_ref _) ?_
          refine g_get O 11 0 rfl c1 dX12_goOn_46 q1453 rfl (by decide) rfl rfl ?_
          refine g_iload_n O dX12_goOn_49 rfl ?_
          refine g_iload_n O dX12_goOn_50 rfl ?_
          by_cases hi0 : i = 0
          · have hp0 : pre = [] := List.length_eq_zero_iff.mp (by omega)
            refine g_if_ne O 58 dX12_goOn_51 (by decide) (fun hc2 => ?_) (fun hc2 => ?_)
            · exact absurd (by rw [hi0]; exact nI_0) hc2
            · refine g_iconst O dX12_goOn_54 (-1) rfl ?_
              refine g_goto O 66 dX12_goOn_55 (by decide) ?_
              have e0 : pre.getLast? = none := by rw [hp0]; rfl
              rw [e0] at call
              exact call
          · obtain ⟨k, hk1⟩ : ∃ k, i = k + 1 := ⟨i - 1, by omega⟩
            refine g_if_ne O 58 dX12_goOn_51 (by decide) (fun hc2 => ?_) (fun hc2 => ?_)
            · refine g_aload_n O dX12_goOn_58 rfl (by first | rfl | exact rf_ref _) ?_
              refine g_get O 11 1 rfl c1 dX12_goOn_59 q1454 rfl (by decide) rfl rfl ?_
              refine g_iload_n O dX12_goOn_62 rfl ?_
              refine g_iconst O dX12_goOn_63 (nI 1) rfl ?_
              refine g_isub O dX12_goOn_64 ?_
              rw [pk_sub (by omega : 1 ≤ i)]
              refine g_iald O (i - 1) rfl (by omega) (by omega) v1 dX12_goOn_65 ?_
              rw [v2 (i - 1) (by omega)]
              rw [hlast2 hi0] at call
              exact call
            · exact absurd ((nI_nz (by omega)).mp hc2) hi0
    refine g_iload_n O dX12_goOn_0 rfl ?_
    refine g_aload_n O dX12_goOn_1 rfl (by first | rfl | exact rf_ref _) ?_
    refine g_get O 11 0 rfl c1 dX12_goOn_2 q1453 rfl (by decide) rfl rfl ?_
    refine g_get O 10 0 rfl r1 dX12_goOn_5 q1288 rfl (by decide) rfl rfl ?_
    refine g_icmp_ne O 35 dX12_goOn_8 (by decide) (fun hc => ?_) (fun hc => ?_)
    · refine g_iconst O dX12_goOn_35 (nI 0) rfl ?_
      refine g_istore O dX12_goOn_36 rfl ?_
      refine Wg.wide (0 * (3 * 5 ^ d)) (0 * (23 * 5 ^ d)) (by omega) (by omega) ?_
      exact loop 5 0 h tsf cap (by omega) Fr.rf A0 hcap hpre htag hk
    · exact absurd ((nI_eq (by omega) (by omega)).mp hc) (by omega)
