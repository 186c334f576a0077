set_option maxRecDepth 100000
/-! Trellis.behind (printed by tools/gen_behind.py) -/
/-- sums, or greatest ones, of the first k of w -/
def fo (sums : Bool) (w : Nat → Nat) : Nat → Nat
  | 0 => 0
  | k + 1 => if sums then fo sums w k + w k else (if fo sums w k < w k then w k else fo sums w k)
/-- what a tag weighs at a place i behind another one -/
def aOf (wt st : Nat → Nat → Nat) (fi : Nat → Nat) (i from' tag : Nat) : Nat := wt i tag * sOf st fi (some from') tag
/-- what comes behind a tag, d places from the end -/
def bOf (A : Nat → Nat → Nat → Nat) (sums : Bool) (n : Nat) : Nat → Nat → Nat
  | 0, _ => 1
  | d + 1, from' => fo sums (fun tag => A (n - 1 - d) from' tag * bOf A sums n d tag) 5
theorem fo_le {sums : Bool} {w : Nat → Nat} {B : Nat} : ∀ k, (∀ t, t < k → w t ≤ B) → fo sums w k ≤ k * B
  | 0, _ => Nat.zero_le _
  | k + 1, h => by
    have h1 := fo_le (sums := sums) k (fun t ht => h t (by omega))
    have h2 := h k (by omega)
    rw [fo, Nat.succ_mul]
    split
    · omega
    · split <;> omega
theorem bOf_le {A : Nat → Nat → Nat → Nat} {sums : Bool} {n : Nat} (hA : ∀ i f t, A i f t ≤ 63) : ∀ d f, bOf A sums n d f ≤ 315 ^ d
  | 0, f => Nat.le_refl _
  | d + 1, f => by
    have h := fo_le (sums := sums) (w := fun tag => A (n - 1 - d) f tag * bOf A sums n d tag) (B := 63 * 315 ^ d) 5 (fun t ht => Nat.mul_le_mul (hA _ _ _) (bOf_le hA d t))
    rw [bOf, Nat.pow_succ]
    omega
theorem pow315 {d : Nat} (h : d ≤ 4) : 315 ^ d ≤ 9845600625 := by
  have : 315 ^ d ≤ 315 ^ 4 := Nat.pow_le_pow_right (by decide) h
  exact this
/-- a place, from n - 1 down to -1 -/
abbrev pI : Nat → Int32
  | 0 => -1
  | k + 1 => nI k
theorem pI_dec (k : Nat) : nI k + Int32.ofInt (-1) = pI k := by
  cases k with
  | zero => rfl
  | succ k => exact nI_by (up := false) (n := k + 1) (fun _ => Nat.succ_pos k)
theorem nI_nn {k : Nat} (h : k < 2 ^ 31) : ¬ nI k < 0 := fun z => by
  have h1 := Int32.lt_iff_toInt_lt.mp z
  rw [nI_toInt h] at h1
  have h2 : (0 : Int32).toInt = 0 := by decide
  omega
theorem aOf_le {wt st : Nat → Nat → Nat} {fi : Nat → Nat} (hwt : ∀ i j, wt i j ≤ 9) (i f t : Nat) : aOf wt st fi i f t ≤ 63 := Nat.mul_le_mul (hwt i t) sOf_le.1
theorem c_X9_behind (l : Launch) (E : GE) (h : HV) {r T n : Nat} {cw ce : List Nat → Nat → Nat} {st : Nat → Nat → Nat} {fi : Nat → Nat} {ws : List (List Nat)} {lk : Nat → Option Nat} {wt : Nat → Nat → Nat} (sums : Bool) (hR : TR E h r T n wt (fun i j => sOf st fi (some i) j)) (hQ : TQ E h T cw ce st fi ws lk) (hwt : ∀ i j, wt i j ≤ 9) (hn : n ≤ 5) (h1n : 1 ≤ n) : Cg l E yX9_behind cX9_behind 10 (some (.array (.array .long))) 3 6 30 [.ref r, .int (bI sums)] h (fun v h' => (∃ a, v = some (.ref a) ∧ LX E h' 23 a n (fun i j => bOf (aOf wt st fi) sums n (n - 1 - i) j)) ∧ Fr [23] h h') := by
  have hR0 := hR
  obtain ⟨aW, aS, r1, -⟩ := hR
  have hA := aOf_le (st := st) (fi := fi) hwt
  refine Cg.of (by first | exact plainFor_of_name (by decide) | decide +kernel) [some (.ref r), some (.int (bI sums)), none, none, none, none, none, none, none, none] (Nat.le_of_ble_eq_true rfl) rfl ?_
  intro p e s m args below meth c O
  refine g_aload_n O dX9_behind_0 rfl (by first | rfl | exact rf_ref _) ?_
  refine g_get O 10 0 rfl r1 dX9_behind_1 q1287 rfl (by decide) rfl rfl ?_
  refine g_iconst O dX9_behind_4 (nI 5) rfl ?_
  refine g_multiJ O 23 n rfl (by omega) q1309 dX9_behind_5 (by first | exact Nat.le_of_ble_eq_true rfl | omega) (by first | exact Nat.le_of_ble_eq_true rfl | omega) (fun b hb => ?_)
  refine Wg.abs (fun hB eB => ?_)
  have FB : Fr [] h hB := by rw [← eB]; exact (Fr.rf (S := [])).mul hb
  have NB : LX E hB 23 b n (fun _ _ => 0) := by rw [← eB]; exact LX.new
  clear eB
  refine Wg.wide 6 30 (by omega) (by omega) ?_
  have outer : ∀ k hh f, k ≤ n → Fr [23] h hh → LX E hh 23 b n f → (∀ x y, k ≤ x → x < n → y < 5 → f x y = bOf (aOf wt st fi) sums n (n - 1 - x) y) → Wg p l e (rmG 3 6 30) s m args below meth c E (MQ below (gQ E (fun v h' => (∃ a, v = some (.ref a) ∧ LX E h' 23 a n (fun i j => bOf (aOf wt st fi) sums n (n - 1 - i) j)) ∧ Fr [23] h h')) args s 6 30 (gA E)) 17 [some (.ref r), some (.int (bI sums)), some (.ref b), some (.int (pI k)), none, none, none, none, none, none] [] hh 6 30 := by
    intro k
    induction k with
    | zero =>
      intro hh f hk hF hL hd
      refine g_iload_n O dX9_behind_17 rfl ?_
      refine g_if_lt O 135 dX9_behind_18 (by decide) (fun hc => ?_) (fun hc => ?_)
      · refine g_aload_n O dX9_behind_135 rfl (by first | rfl | exact rf_ref _) ?_
        refine g_aret O dX9_behind_136 (Or.inr ⟨_, rfl⟩) (Or.inr ⟨_, rfl⟩) (Nat.le_refl _) (Nat.le_refl _) ⟨⟨b, rfl, ?_⟩, hF⟩
        obtain ⟨g, m1, m2, m3⟩ := hL
        exact ⟨g, m1, fun x hx => (by obtain ⟨r0, row0, e1, e2, e3⟩ := m2 x hx; exact ⟨r0, row0, e1, e2, fun y hy => (by rw [e3 y hy, hd x y (Nat.zero_le _) hx hy])⟩), m3⟩
      · exact absurd (by decide) hc
    | succ k ih =>
      intro hh f hk hF hL hd
      have inner : ∀ d fr hh f, fr + d = 5 → Fr [23] h hh → LX E hh 23 b n f → (∀ x y, k < x → x < n → y < 5 → f x y = bOf (aOf wt st fi) sums n (n - 1 - x) y) → (∀ y, y < fr → f k y = bOf (aOf wt st fi) sums n (n - 1 - k) y) → Wg p l e (rmG 3 6 30) s m args below meth c E (MQ below (gQ E (fun v h' => (∃ a, v = some (.ref a) ∧ LX E h' 23 a n (fun i j => bOf (aOf wt st fi) sums n (n - 1 - i) j)) ∧ Fr [23] h h')) args s 6 30 (gA E)) 24 [some (.ref r), some (.int (bI sums)), some (.ref b), some (.int (nI k)), some (.int (nI fr)), none, none, none, none, none] [] hh 6 30 := by
        intro d
        induction d with
        | zero =>
          intro fr hh f hfr hF hL hd hI
          obtain rfl : fr = 5 := by omega
          refine g_iload O dX9_behind_24 rfl ?_
          refine g_iconst O dX9_behind_26 (nI 5) rfl ?_
          refine g_icmp_ge O 129 dX9_behind_27 (by decide) (fun hc => ?_) (fun hc => ?_)
          · refine g_iinc O dX9_behind_129 rfl (by first | rfl | exact rf_lok rfl) ?_
            refine g_goto O 17 dX9_behind_132 (by decide) ?_
            refine Wg.fg 4 ?_
            refine Wg.L [some (.ref r), some (.int (bI sums)), some (.ref b), some (.int (pI k)), none, none, none, none, none, none] (by rw [← pI_dec k]; rfl) ?_
            refine ih hh f (by omega) hF hL (fun x y hx hxn hy => ?_)
            rcases Nat.lt_or_ge k x with z | z
            · exact hd x y z hxn hy
            · rw [show x = k by omega]; exact hI y hy
          · exact absurd (Int32.le_refl _) hc
        | succ d ih2 =>
          intro fr hh f hfr hF hL hd hI
          have r1h : hh r = some (20, .inr (10, [.int (nI n), .ref aW, .ref aS, .ref T])) := hF _ _ r1 (show 20 ∉ [23] by decide)
          obtain ⟨g, m1, m2, m3⟩ := hL
          obtain ⟨r0, row0, e1, e2, e3⟩ := m2 k (by omega)
          have store : Wg p l e (rmG 3 6 30) s m args below meth c E (MQ below (gQ E (fun v h' => (∃ a, v = some (.ref a) ∧ LX E h' 23 a n (fun i j => bOf (aOf wt st fi) sums n (n - 1 - i) j)) ∧ Fr [23] h h')) args s 6 30 (gA E)) 115 [some (.ref r), some (.int (bI sums)), some (.ref b), some (.int (nI k)), some (.int (nI fr)), some (.long (lN (bOf (aOf wt st fi) sums n (n - 1 - k) fr))), none, none, none, none] [] hh 6 30 := by
            refine g_aload_n O dX9_behind_115 rfl (by first | rfl | exact rf_ref _) ?_
            refine g_iload_n O dX9_behind_116 rfl ?_
            refine g_aaldA O 6 k rfl rfl (by omega) (by omega) m1 dX9_behind_117 ?_
            rw [e1]
            have F2 : Fr [23] hh (hup hh r0 (23, cLongs E 5 (vp_updL row0 fr (lN (bOf (aOf wt st fi) sums n (n - 1 - k) fr))))) := Fr.rf.up e2 (by decide)
            refine g_iload O dX9_behind_118 rfl ?_
            refine g_lload O dX9_behind_120 rfl ?_
            refine g_last O fr rfl (by omega) (by decide) e2 (by decide) dX9_behind_122 ?_
            refine g_iinc O dX9_behind_123 rfl (by first | rfl | exact rf_lok rfl) ?_
            refine g_goto O 24 dX9_behind_126 (by decide) ?_
            refine Wg.fg 5 ?_
            refine Wg.L [some (.ref r), some (.int (bI sums)), some (.ref b), some (.int (nI k)), some (.int (nI (fr + 1))), none, none, none, none, none] (by rw [← nI_1 fr]; rfl) ?_
            refine ih2 (fr + 1) _ (fu2 f k fr (bOf (aOf wt st fi) sums n (n - 1 - k) fr)) (by omega) (hF.tr F2) (LX.set m1 m2 m3 (by omega) e1 e2 e3 rfl) (fun x y hx hxn hy => ?_) (fun y hy => ?_)
            · unfold fu2
              rw [if_neg (fun z => by omega)]
              exact hd x y hx hxn hy
            · unfold fu2
              by_cases hyj : y = fr
              · rw [if_pos ⟨rfl, hyj⟩, hyj]
              · rw [if_neg (fun z => hyj z.2)]
                exact hI y (by omega)
          refine g_iload O dX9_behind_24 rfl ?_
          refine g_iconst O dX9_behind_26 (nI 5) rfl ?_
          refine g_icmp_ge O 129 dX9_behind_27 (by decide) (fun hc => ?_) (fun hc => ?_)
          · exact absurd ((nI_leI (by decide) (by omega)).mp hc) (by omega)
          · refine g_iload_n O dX9_behind_30 rfl ?_
            refine g_aload_n O dX9_behind_31 rfl (by first | rfl | exact rf_ref _) ?_
            refine g_get O 10 0 rfl r1h dX9_behind_32 q1287 rfl (by decide) rfl rfl ?_
            refine g_iconst O dX9_behind_35 (nI 1) rfl ?_
            refine g_isub O dX9_behind_36 ?_
            rw [pk_sub h1n]
            by_cases hk1 : k = n - 1
            · refine g_icmp_ne O 44 dX9_behind_37 (by decide) (fun hc2 => ?_) (fun hc2 => ?_)
              · exact absurd (by rw [hk1]) hc2
              · refine g_lconst O dX9_behind_40 (lN 1) rfl ?_
                refine g_goto O 45 dX9_behind_41 (by decide) ?_
                refine g_lstore O dX9_behind_45 rfl ?_
                refine g_iconst O dX9_behind_47 (nI 0) rfl ?_
                refine g_istore O dX9_behind_48 rfl ?_
                refine g_iload O dX9_behind_50 rfl ?_
                refine g_iconst O dX9_behind_52 (nI 5) rfl ?_
                refine g_icmp_ge O 115 dX9_behind_53 (by decide) (fun hc3 => ?_) (fun hc3 => ?_)
                · exact absurd ((nI_leI (by decide) (by decide)).mp hc3) (by decide)
                · refine g_iload_n O dX9_behind_56 rfl ?_
                  refine g_aload_n O dX9_behind_57 rfl (by first | rfl | exact rf_ref _) ?_
                  refine g_get O 10 0 rfl r1h dX9_behind_58 q1287 rfl (by decide) rfl rfl ?_
                  refine g_iconst O dX9_behind_61 (nI 1) rfl ?_
                  refine g_isub O dX9_behind_62 ?_
                  rw [pk_sub h1n]
                  refine g_icmp_ge O 115 dX9_behind_63 (by decide) (fun hc4 => ?_) (fun hc4 => ?_)
                  · refine Wg.fg 7 ?_
                    have e0 : n - 1 - k = 0 := by omega
                    rw [e0] at store
                    exact store
                  · exact absurd (by rw [hk1]; exact Int32.le_refl _) hc4
            · have hkn : k + 1 < n := by omega
              have r3 : n - 1 - k = (n - 2 - k) + 1 := by omega
              have r4 : n - 1 - (n - 2 - k) = k + 1 := by omega
              have r5 : n - 1 - (k + 1) = n - 2 - k := by omega
              obtain ⟨r6, row6, e7, e8, e9⟩ := m2 (k + 1) hkn
              have hwb : ∀ t, aOf wt st fi (k + 1) fr t * bOf (aOf wt st fi) sums n (n - 2 - k) t ≤ 63 * 9845600625 := fun t => Nat.mul_le_mul (hA _ _ _) (Nat.le_trans (bOf_le hA _ _) (pow315 (by omega)))
              have tags : ∀ d3 t, t + d3 = 5 → Wg p l e (rmG 3 6 30) s m args below meth c E (MQ below (gQ E (fun v h' => (∃ a, v = some (.ref a) ∧ LX E h' 23 a n (fun i j => bOf (aOf wt st fi) sums n (n - 1 - i) j)) ∧ Fr [23] h h')) args s 6 30 (gA E)) 50 [some (.ref r), some (.int (bI sums)), some (.ref b), some (.int (nI k)), some (.int (nI fr)), some (.long (lN (fo sums (fun tag => aOf wt st fi (k + 1) fr tag * bOf (aOf wt st fi) sums n (n - 2 - k) tag) t))), none, some (.int (nI t)), none, none] [] hh 6 30 := by
                intro d3
                induction d3 with
                | zero =>
                  intro t ht
                  obtain rfl : t = 5 := by omega
                  refine g_iload O dX9_behind_50 rfl ?_
                  refine g_iconst O dX9_behind_52 (nI 5) rfl ?_
                  refine g_icmp_ge O 115 dX9_behind_53 (by decide) (fun hc3 => ?_) (fun hc3 => ?_)
                  · refine Wg.fg 7 ?_
                    rw [r3, bOf, r4] at store
                    exact store
                  · exact absurd (Int32.le_refl _) hc3
                | succ d3 ih3 =>
                  intro t ht
                  have hfo := fo_le (sums := sums) (w := fun tag => aOf wt st fi (k + 1) fr tag * bOf (aOf wt st fi) sums n (n - 2 - k) tag) (B := 63 * 9845600625) t (fun u hu => hwb u)
                  have hwt' := hwb t
                  have hQh := hQ.fr hF (by decide)
                  have hRh := hR0.fr hF (by decide) (by decide) (by decide)
                  refine g_iload O dX9_behind_50 rfl ?_
                  refine g_iconst O dX9_behind_52 (nI 5) rfl ?_
                  refine g_icmp_ge O 115 dX9_behind_53 (by decide) (fun hc3 => ?_) (fun hc3 => ?_)
                  · exact absurd ((nI_leI (by decide) (by omega)).mp hc3) (by omega)
                  · refine g_iload_n O dX9_behind_56 rfl ?_
                    refine g_aload_n O dX9_behind_57 rfl (by first | rfl | exact rf_ref _) ?_
                    refine g_get O 10 0 rfl r1h dX9_behind_58 q1287 rfl (by decide) rfl rfl ?_
                    refine g_iconst O dX9_behind_61 (nI 1) rfl ?_
                    refine g_isub O dX9_behind_62 ?_
                    rw [pk_sub h1n]
                    refine g_icmp_ge O 115 dX9_behind_63 (by decide) (fun hc4 => ?_) (fun hc4 => ?_)
                    · exact absurd ((nI_leI (by omega) (by omega)).mp hc4) (by omega)
                    · refine g_aload_n O dX9_behind_66 rfl (by first | rfl | exact rf_ref _) ?_
                      refine g_iload_n O dX9_behind_67 rfl ?_
                      refine g_iconst O dX9_behind_68 (nI 1) rfl ?_
                      refine g_iadd O dX9_behind_69 ?_
                      rw [nI_add]
                      refine g_iload O dX9_behind_70 rfl ?_
                      refine g_iload O dX9_behind_72 rfl ?_
                      refine g_callV O (n := 3) (c_X9_at l E hh (some fr) hRh hQh hwt hn hkn (by omega : t < 5) (fun k hk => by cases hk; omega)) rfl rfl r1h dX9_behind_74 q1311 q1312 q1313 q75 q1314 rfl (by decide +kernel) rfl rfl (by first | decide | omega) (by decide) (by first | exact Nat.le_of_ble_eq_true rfl | omega) (by first | exact Nat.le_of_ble_eq_true rfl | omega) (by first | exact Nat.le_of_ble_eq_true rfl | omega) (fun v h1 hp => ?_)
                      obtain ⟨rfl, rfl⟩ := hp
                      refine g_aload_n O dX9_behind_77 rfl (by first | rfl | exact rf_ref _) ?_
                      refine g_iload_n O dX9_behind_78 rfl ?_
                      refine g_iconst O dX9_behind_79 (nI 1) rfl ?_
                      refine g_iadd O dX9_behind_80 ?_
                      rw [nI_add]
                      refine g_aaldA O 6 (k + 1) rfl rfl hkn (by omega) m1 dX9_behind_81 ?_
                      rw [e7]
                      refine g_iload O dX9_behind_82 rfl ?_
                      refine g_lald O t rfl (by omega) (by decide) e8 dX9_behind_84 ?_
                      rw [e9 t (by omega), hd (k + 1) t (by omega) hkn (by omega), r5]
                      refine g_lmul O dX9_behind_85 ?_
                      rw [lN_mul]
                      have next : ∀ x, x = fo sums (fun tag => aOf wt st fi (k + 1) fr tag * bOf (aOf wt st fi) sums n (n - 2 - k) tag) (t + 1) → Wg p l e (rmG 3 6 30) s m args below meth c E (MQ below (gQ E (fun v h' => (∃ a, v = some (.ref a) ∧ LX E h' 23 a n (fun i j => bOf (aOf wt st fi) sums n (n - 1 - i) j)) ∧ Fr [23] h h')) args s 6 30 (gA E)) 107 [some (.ref r), some (.int (bI sums)), some (.ref b), some (.int (nI k)), some (.int (nI fr)), some (.long (lN (fo sums (fun tag => aOf wt st fi (k + 1) fr tag * bOf (aOf wt st fi) sums n (n - 2 - k) tag) t))), none, some (.int (nI t)), some (.long (lN (wt (k + 1) t * sOf st fi (some fr) t * bOf (aOf wt st fi) sums n (n - 2 - k) t))), none] [.long (lN x)] hh 6 30 := by
                        intro x hx
                        subst hx
                        refine g_lstore O dX9_behind_107 rfl ?_
                        refine g_iinc O dX9_behind_109 rfl (by first | rfl | exact rf_lok rfl) ?_
                        refine g_goto O 50 dX9_behind_112 (by decide) ?_
                        refine Wg.fg 8 ?_
                        refine Wg.L [some (.ref r), some (.int (bI sums)), some (.ref b), some (.int (nI k)), some (.int (nI fr)), some (.long (lN (fo sums (fun tag => aOf wt st fi (k + 1) fr tag * bOf (aOf wt st fi) sums n (n - 2 - k) tag) (t + 1)))), none, some (.int (nI (t + 1))), none, none] (by rw [← nI_1 t]; rfl) ?_
                        exact ih3 (t + 1) (by omega)
                      refine g_lstore O dX9_behind_86 rfl ?_
                      refine g_iload_n O dX9_behind_88 rfl ?_
                      cases sums
                      · refine g_if_eq O 100 dX9_behind_89 (by decide) (fun hc5 => ?_) (fun hc5 => ?_)
                        · refine g_lload O dX9_behind_100 rfl ?_
                          refine g_lload O dX9_behind_102 rfl ?_
                          refine g_callS O (n := 2) (c_J15_max_2 l E hh _ (wt (k + 1) t * sOf st fi (some fr) t * bOf (aOf wt st fi) false n (n - 2 - k) t) (by omega) (Nat.lt_of_le_of_lt (show wt (k + 1) t * sOf st fi (some fr) t * bOf (aOf wt st fi) false n (n - 2 - k) t ≤ 63 * 9845600625 from hwt') (by decide))) rfl dX9_behind_104 q1315 q1316 q57 q1317 (by decide +kernel) rfl rfl (by first | decide | omega) (by decide) (by first | exact Nat.le_of_ble_eq_true rfl | omega) (by first | exact Nat.le_of_ble_eq_true rfl | omega) (by first | exact Nat.le_of_ble_eq_true rfl | omega) (fun v h1 hp => ?_)
                          obtain ⟨rfl, rfl⟩ := hp
                          exact next _ rfl
                        · exact absurd rfl hc5
                      · refine g_if_eq O 100 dX9_behind_89 (by decide) (fun hc5 => ?_) (fun hc5 => ?_)
                        · exact absurd hc5 (by decide)
                        · refine g_lload O dX9_behind_92 rfl ?_
                          refine g_lload O dX9_behind_94 rfl ?_
                          refine g_ladd O dX9_behind_96 ?_
                          rw [lN_add]
                          refine g_goto O 107 dX9_behind_97 (by decide) ?_
                          exact next _ rfl
              refine g_icmp_ne O 44 dX9_behind_37 (by decide) (fun hc2 => ?_) (fun hc2 => ?_)
              · refine g_lconst O dX9_behind_44 (lN 0) rfl ?_
                refine g_lstore O dX9_behind_45 rfl ?_
                refine g_iconst O dX9_behind_47 (nI 0) rfl ?_
                refine g_istore O dX9_behind_48 rfl ?_
                exact tags 5 0 (by omega)
              · exact absurd ((nI_eq (by omega) (by omega)).mp hc2) hk1
      refine g_iload_n O dX9_behind_17 rfl ?_
      refine g_if_lt O 135 dX9_behind_18 (by decide) (fun hc => ?_) (fun hc => ?_)
      · exact absurd hc (nI_nn (by omega))
      · refine g_iconst O dX9_behind_21 (nI 0) rfl ?_
        refine g_istore O dX9_behind_22 rfl ?_
        exact inner 5 0 hh f (by omega) hF hL (fun x y hx hxn hy => hd x y hx hxn hy) (fun y hy => absurd hy (Nat.not_lt_zero _))
  refine g_astore_n O rfl dX9_behind_9 (by first | rfl | exact rf_ref _) (by first | rfl | exact rf_lst ⟨rfl, rfl⟩) ?_
  refine g_aload_n O dX9_behind_10 rfl (by first | rfl | exact rf_ref _) ?_
  refine g_get O 10 0 rfl (FB _ _ r1 (by simp)) dX9_behind_11 q1287 rfl (by decide) rfl rfl ?_
  refine g_iconst O dX9_behind_14 (nI 1) rfl ?_
  refine g_isub O dX9_behind_15 ?_
  rw [pk_sub h1n]
  refine g_istore_n O rfl dX9_behind_16 rfl ?_
  refine Wg.L [some (.ref r), some (.int (bI sums)), some (.ref b), some (.int (pI n)), none, none, none, none, none, none] (by obtain ⟨n', rfl⟩ : ∃ n', n = n' + 1 := ⟨n - 1, by omega⟩; rfl) ?_
  exact outer n hB _ (Nat.le_refl _) (FB.mono (fun x hx => by cases hx)) NB (fun x y hx hxn hy => by omega)
