set_option maxRecDepth 100000
/-! new Trellis() -/
theorem rows_ne {A B : ClassId} {n k la lb : Nat} {g : Nat → Option Nat} {f : Nat → Int32} : ((la, cRows A n g) : Nat × va_E) ≠ (lb, .inl (B, k, .inl f)) := fun z => by
  have h := congrArg (fun c : Nat × va_E => match c.2 with | .inl (_, _, .inl _) => true | _ => false) z
  cases (show false = true from h)
theorem Wg.abs {p : Program} {l : Launch} {e : Env} {R : Room} {s : State} {m : MethodId} {args : Array Value} {below : List Frame} {meth : Method} {c : Code} {E : GE} {Q : State → Prop} {pc : Nat} {L : List (Option Value)} {st : List Value} {h : HV} {cells slots : Nat}
    (kk : ∀ h' : HV, h = h' → Wg p l e R s m args below meth c E Q pc L st h' cells slots) : Wg p l e R s m args below meth c E Q pc L st h cells slots := kk h rfl
theorem c_X9_init (l : Launch) (E : GE) (h : HV) {r T : Nat} {cw ce : List Nat → Nat → Nat} {st : Nat → Nat → Nat} {fi : Nat → Nat} {ws : List (List Nat)} {lk : Nat → Option Nat} (hr : h r = some (20, .inr (10, [.int 0, .null, .null, .null]))) (hQ : TQ E h T cw ce st fi ws lk) : Cg l E yX9_init cX9_init 5 none 10 312 2385 [.ref r, .ref T] h (fun v h' => v = none ∧ TR E h' r T ws.length (wtOf cw ce ws lk) (fun i j => sOf st fi (some i) j) ∧ Fr [20, 21, 22, 50] h h') := by
  have hQ0 := hQ
  have hws : ws.length ≤ 5 := by
    obtain ⟨aw, ae, ast, afi, ase, alo, cap, x4, x5, x8, li, row, q1, q2, q3, q4, q5, q6, q7, q8, q9, q10, q11, q12, q13, q14, q15, q16⟩ := hQ
    exact q11
  have hlk : ∀ j k, lk j = some k → k < 5 := by
    obtain ⟨aw, ae, ast, afi, ase, alo, cap, x4, x5, x8, li, row, q1, q2, q3, q4, q5, q6, q7, q8, q9, q10, q11, q12, q13, q14, q15, q16⟩ := hQ
    exact q12
  have dS : ∀ x ∈ [20, 21, 22, 50], 20 ≤ x := by decide
  refine Cg.of (by first | exact plainFor_of_name (by decide) | decide +kernel) [some (.ref r), some (.ref T), none, none, none] (Nat.le_of_ble_eq_true rfl) rfl ?_
  intro p e s m args below meth c O
  refine g_aload_n O dX9_init_0 rfl (by first | rfl | exact rf_ref _) ?_
  refine g_aload_n O dX9_init_1 rfl (by first | rfl | exact rf_ref _) ?_
  refine g_putF O 10 3 rfl hr (by decide) dX9_init_2 q1291 rfl (by decide) rfl rfl rfl rfl (by first | exact Nat.le_of_ble_eq_true rfl | omega) ?_
  refine g_aload_n O dX9_init_5 rfl (by first | rfl | exact rf_ref _) ?_
  refine g_objInit O rfl q1278 q87 q88 dX9_init_6 (by decide) (by first | exact Nat.le_of_ble_eq_true rfl | omega) ?_
  have FA : Fr [20] h (hup h r (20, .inr (10, [.int 0, .null, .null, .ref T]))) := Fr.rf.up hr (by decide)
  obtain ⟨aw, ae, ast, afi, ase, alo, cap, x4, x5, x8, li, row, q1, q2, q3, q4, q5, q6, q7, q8, q9, q10, q11, q12, q13, q14, q15, q16⟩ := hQ.fr FA (by decide)
  have hse : ∃ mo arr, hup h r (20, .inr (10, [.int 0, .null, .null, .ref T])) ase = some (12, cList mo arr li.length) := by
    obtain ⟨mo, arr, la, g, z, -⟩ := q6
    exact ⟨mo, arr, z⟩
  obtain ⟨mo, arr, hse⟩ := hse
  refine g_aload_n O dX9_init_9 rfl (by first | rfl | exact rf_ref _) ?_
  refine g_aload_n O dX9_init_10 rfl (by first | rfl | exact rf_ref _) ?_
  refine g_get O 10 3 rfl hup_self dX9_init_11 q1291 rfl (by decide) rfl rfl ?_
  refine g_getN O 0 6 rfl q1 dX9_init_14 q184 rfl (by decide) rfl rfl ?_
  refine g_callF O (n := 0) (x := ⟨"java/util/List", "size", "()I"⟩) (c_J4_size l E _ q6) rfl rfl hse dX9_init_17 q1280 q220 q218 q45 q222 q216 q221 q219 q217 (O.k.2.2.2.2.2.2.2.1 _ (by decide)) (by decide +kernel) rfl rfl (by first | decide | omega) (by decide) (by first | exact Nat.le_of_ble_eq_true rfl | omega) (by first | exact Nat.le_of_ble_eq_true rfl | omega) (by first | exact Nat.le_of_ble_eq_true rfl | omega) (fun v h1 hp => ?_)
  obtain ⟨rfl, rfl⟩ := hp
  rw [q7]
  refine g_putF O 10 0 rfl hup_self (by decide) dX9_init_22 q1287 rfl (by decide) rfl rfl rfl rfl (by first | exact Nat.le_of_ble_eq_true rfl | omega) ?_
  refine Wg.H _ hup_hup ?_
  have FB : Fr [20] h (hup h r (20, .inr (10, [.int (nI ws.length), .null, .null, .ref T]))) := Fr.rf.up hr (by decide)
  refine g_aload_n O dX9_init_25 rfl (by first | rfl | exact rf_ref _) ?_
  refine g_aload_n O dX9_init_26 rfl (by first | rfl | exact rf_ref _) ?_
  refine g_get O 10 0 rfl hup_self dX9_init_27 q1287 rfl (by decide) rfl rfl ?_
  refine g_iconst O dX9_init_30 (nI 5) rfl ?_
  refine g_multiI O 21 ws.length rfl (by omega) q1281 dX9_init_31 (by first | exact Nat.le_of_ble_eq_true rfl | omega) (by first | exact Nat.le_of_ble_eq_true rfl | omega) (fun aW haW => ?_)
  have hrW : r < aW := by
    rcases Nat.lt_or_ge r aW with z | z
    · exact z
    · have := haW r z
      rw [hup_self] at this
      cases this
  refine Wg.abs (fun hC eC => ?_)
  have FC : Fr [20] h hC := by rw [← eC]; exact FB.mul haW
  have RC : hC r = some (20, .inr (10, [.int (nI ws.length), .null, .null, .ref T])) := by rw [← eC]; exact (hmul_ne (Or.inl hrW)).trans hup_self
  have MC : MX E hC 21 aW ws.length 5 (fun _ _ => 0) := by rw [← eC]; exact MX.new
  clear eC
  refine g_putF O 10 1 rfl RC (by decide) dX9_init_35 q1289 rfl (by decide) rfl rfl rfl rfl (by first | exact Nat.le_of_ble_eq_true rfl | omega) ?_
  refine g_aload_n O dX9_init_38 rfl (by first | rfl | exact rf_ref _) ?_
  refine g_iconst O dX9_init_39 (nI 5) rfl ?_
  refine g_iconst O dX9_init_40 (nI 5) rfl ?_
  refine Wg.abs (fun hD eD => ?_)
  have FD : Fr [20] h hD := by rw [← eD]; exact FC.up RC (by decide)
  have RD : hD r = some (20, .inr (10, [.int (nI ws.length), .ref aW, .null, .ref T])) := by rw [← eD]; exact hup_self
  have MD : MX E hD 21 aW ws.length 5 (fun _ _ => 0) := by rw [← eD]; exact MC.fr (Fr.rf.up RC (show 20 ∈ [20] by decide)) (by decide)
  clear eD
  refine g_multiI O 22 5 rfl (by decide) q1281 dX9_init_41 (by first | exact Nat.le_of_ble_eq_true rfl | omega) (by first | exact Nat.le_of_ble_eq_true rfl | omega) (fun aS haS => ?_)
  have hrS : r < aS := by
    rcases Nat.lt_or_ge r aS with z | z
    · exact z
    · have := haS r z
      rw [RD] at this
      cases this
  refine Wg.abs (fun hE eE => ?_)
  have FE : Fr [20] h hE := by rw [← eE]; exact FD.mul haS
  have RE1 : hE r = some (20, .inr (10, [.int (nI ws.length), .ref aW, .null, .ref T])) := by rw [← eE]; exact (hmul_ne (Or.inl hrS)).trans RD
  have ME : MX E hE 21 aW ws.length 5 (fun _ _ => 0) := by rw [← eE]; exact MD.fr ((Fr.rf (S := [])).mul haS) (by simp)
  have NE : MX E hE 22 aS 5 5 (fun _ _ => 0) := by rw [← eE]; exact MX.new
  clear eE
  refine g_putF O 10 2 rfl RE1 (by decide) dX9_init_45 q1290 rfl (by decide) rfl rfl rfl rfl (by first | exact Nat.le_of_ble_eq_true rfl | omega) ?_
  refine Wg.abs (fun hF eF => ?_)
  have FF : Fr [20] h hF := by rw [← eF]; exact FE.up RE1 (by decide)
  have RF : hF r = some (20, .inr (10, [.int (nI ws.length), .ref aW, .ref aS, .ref T])) := by rw [← eF]; exact hup_self
  have MF : MX E hF 21 aW ws.length 5 (fun _ _ => 0) := by rw [← eF]; exact ME.fr (Fr.rf.up RE1 (show 20 ∈ [20] by decide)) (by decide)
  have NF : MX E hF 22 aS 5 5 (fun _ _ => 0) := by rw [← eF]; exact NE.fr (Fr.rf.up RE1 (show 20 ∈ [20] by decide)) (by decide)
  clear eF
  have last : ∀ d i hh fW fS, i + d = 5 → Fr [20, 21, 22, 50] h hh → hh r = some (20, .inr (10, [.int (nI ws.length), .ref aW, .ref aS, .ref T])) → MX E hh 21 aW ws.length 5 fW → MX E hh 22 aS 5 5 fS → (∀ a b, a < ws.length → b < 5 → fW a b = wtOf cw ce ws lk a b) → (∀ a b, a < i → b < 5 → fS a b = sOf st fi (some a) b) → Wg p l e (rmG 10 312 2385) s m args below meth c E (MQ below (gQ E (fun v h' => v = none ∧ TR E h' r T ws.length (wtOf cw ce ws lk) (fun i j => sOf st fi (some i) j) ∧ Fr [20, 21, 22, 50] h h')) args s 312 2385 (gA E)) 131 [some (.ref r), some (.ref T), some (.int (nI i)), none, none] [] hh (312) (2385) := by
    intro d
    induction d with
    | zero =>
      intro i hh fW fS hi hF hR hMW hMS hdW hdS
      obtain rfl : i = 5 := by omega
      refine g_iload_n O dX9_init_131 rfl ?_
      refine g_iconst O dX9_init_132 (nI 5) rfl ?_
      refine g_icmp_ge O 169 dX9_init_133 (by decide) (fun hc => ?_) (fun hc => ?_)
      · refine g_vret O dX9_init_169 (Nat.le_refl _) (Nat.le_refl _) ⟨rfl, ⟨aW, aS, hR, ?_, ?_⟩, hF⟩
        · obtain ⟨g, m1, m2, m3⟩ := hMW
          exact ⟨g, m1, fun a ha => (by obtain ⟨r0, row0, e1, e2, e3⟩ := m2 a ha; exact ⟨r0, row0, e1, e2, fun b hb => (by rw [e3 b hb, hdW a b ha hb])⟩), m3⟩
        · obtain ⟨g, m1, m2, m3⟩ := hMS
          exact ⟨g, m1, fun a ha => (by obtain ⟨r0, row0, e1, e2, e3⟩ := m2 a ha; exact ⟨r0, row0, e1, e2, fun b hb => (by rw [e3 b hb, hdS a b ha hb])⟩), m3⟩
      · exact absurd (Int32.le_refl _) hc
    | succ d ih =>
      have inner : ∀ d2 j i hh fW fS, i + (d + 1) = 5 → j + d2 = 5 → Fr [20, 21, 22, 50] h hh → hh r = some (20, .inr (10, [.int (nI ws.length), .ref aW, .ref aS, .ref T])) → MX E hh 21 aW ws.length 5 fW → MX E hh 22 aS 5 5 fS → (∀ a b, a < ws.length → b < 5 → fW a b = wtOf cw ce ws lk a b) → (∀ a b, a < i → b < 5 → fS a b = sOf st fi (some a) b) → (∀ b, b < j → fS i b = sOf st fi (some i) b) → Wg p l e (rmG 10 312 2385) s m args below meth c E (MQ below (gQ E (fun v h' => v = none ∧ TR E h' r T ws.length (wtOf cw ce ws lk) (fun i j => sOf st fi (some i) j) ∧ Fr [20, 21, 22, 50] h h')) args s 312 2385 (gA E)) 138 [some (.ref r), some (.ref T), some (.int (nI i)), some (.int (nI j)), none] [] hh (312) (2385) := by
        intro d2
        induction d2 with
        | zero =>
          intro j i hh fW fS hi hj hF hR hMW hMS hdW hdS hdI
          obtain rfl : j = 5 := by omega
          refine g_iload_n O dX9_init_138 rfl ?_
          refine g_iconst O dX9_init_139 (nI 5) rfl ?_
          refine g_icmp_ge O 163 dX9_init_140 (by decide) (fun hc => ?_) (fun hc => ?_)
          · refine g_iinc O dX9_init_163 rfl (by first | rfl | exact rf_lok rfl) ?_
            refine g_goto O 131 dX9_init_166 (by decide) ?_
            refine Wg.fg 3 ?_
            refine Wg.L [some (.ref r), some (.ref T), some (.int (nI (i + 1))), none, none] (by rw [← nI_1 i]; rfl) ?_
            refine ih (i + 1) hh fW fS (by omega) hF hR hMW hMS hdW (fun a b ha hb => ?_)
            rcases Nat.lt_or_ge a i with z | z
            · exact hdS a b z hb
            · rw [show a = i by omega]; exact hdI b hb
          · exact absurd (Int32.le_refl _) hc
        | succ d2 ih2 =>
          intro j i hh fW fS hi hj hF hR hMW hMS hdW hdS hdI
          obtain ⟨g, m1, m2, m3⟩ := hMS
          obtain ⟨r0, row0, e1, e2, e3⟩ := m2 i (by omega)
          refine g_iload_n O dX9_init_138 rfl ?_
          refine g_iconst O dX9_init_139 (nI 5) rfl ?_
          refine g_icmp_ge O 163 dX9_init_140 (by decide) (fun hc => ?_) (fun hc => ?_)
          · exact absurd ((nI_leI (by decide) (by omega)).mp hc) (by omega)
          · refine g_aload_n O dX9_init_143 rfl (by first | rfl | exact rf_ref _) ?_
            refine g_get O 10 2 rfl hR dX9_init_144 q1290 rfl (by decide) rfl rfl ?_
            refine g_iload_n O dX9_init_147 rfl ?_
            refine g_aaldA O 5 i rfl rfl (by omega) (by decide) m1 dX9_init_148 ?_
            rw [e1]
            obtain ⟨aw, ae, ast, afi, ase, alo, cap, x4, x5, x8, li, row, q1, q2, q3, q4, q5, q6, q7, q8, q9, q10, q11, q12, q13, q14, q15, q16⟩ := hQ0.fr hF dS
            refine g_iload_n O dX9_init_149 rfl ?_
            refine g_aload_n O dX9_init_150 rfl (by first | rfl | exact rf_ref _) ?_
            refine g_iload_n O dX9_init_151 rfl ?_
            refine g_iload_n O dX9_init_152 rfl ?_
            refine g_callVN O (n := 2) (c_X1_stepOf l E hh (from' := some i) q1 q4 q5 (fun k hk => by cases hk; omega) (by omega : j < 5) q15 q16) rfl rfl q1 dX9_init_153 q1286 q1263 qs14 q36 q1264 (by decide +kernel) rfl rfl (by first | decide | omega) (by decide) (by first | exact Nat.le_of_ble_eq_true rfl | omega) (by first | exact Nat.le_of_ble_eq_true rfl | omega) (by first | exact Nat.le_of_ble_eq_true rfl | omega) (fun v h1 hp => ?_)
            obtain ⟨rfl, rfl⟩ := hp
            refine g_iast O j rfl (by omega) (by decide) e2 (by decide) dX9_init_156 ?_
            refine g_iinc O dX9_init_157 rfl (by first | rfl | exact rf_lok rfl) ?_
            refine g_goto O 138 dX9_init_160 (by decide) ?_
            refine Wg.L [some (.ref r), some (.ref T), some (.int (nI i)), some (.int (nI (j + 1))), none] (by rw [← nI_1 j]; rfl) ?_
            have F2 : Fr [22] hh (hup hh r0 (22, cInts E 5 (upd row0 j (nI (sOf st fi (some i) j))))) := Fr.rf.up e2 (by decide)
            refine ih2 (j + 1) i _ fW (fu2 fS i j (sOf st fi (some i) j)) hi (by omega) (hF.tr (F2.mono (by decide))) (F2 _ _ hR (show 20 ∉ [22] by decide)) (hMW.fr F2 (by decide)) (MX.set rfl m1 m2 m3 (by omega) e1 e2 e3 (hv_ne m1 e2 rows_ne)) hdW (fun a b ha hb => ?_) (fun b hb => ?_)
            · unfold fu2
              rw [if_neg (fun z => by omega)]
              exact hdS a b ha hb
            · unfold fu2
              by_cases hbj : b = j
              · rw [if_pos ⟨rfl, hbj⟩, hbj]
              · rw [if_neg (fun z => hbj z.2)]
                exact hdI b (by omega)
      intro i hh fW fS hi hF hR hMW hMS hdW hdS
      refine g_iload_n O dX9_init_131 rfl ?_
      refine g_iconst O dX9_init_132 (nI 5) rfl ?_
      refine g_icmp_ge O 169 dX9_init_133 (by decide) (fun hc => ?_) (fun hc => ?_)
      · exact absurd ((nI_leI (by decide) (by omega)).mp hc) (by omega)
      · refine g_iconst O dX9_init_136 (nI 0) rfl ?_
        refine g_istore_n O rfl dX9_init_137 rfl ?_
        exact inner 5 0 i hh fW fS hi (by omega) hF hR hMW hMS hdW hdS (fun b hb => absurd hb (Nat.not_lt_zero _))
  have first : ∀ d i hh fW fS, i + d = ws.length → Fr [20, 21, 22, 50] h hh → hh r = some (20, .inr (10, [.int (nI ws.length), .ref aW, .ref aS, .ref T])) → MX E hh 21 aW ws.length 5 fW → MX E hh 22 aS 5 5 fS → (∀ a b, a < i → b < 5 → fW a b = wtOf cw ce ws lk a b) → Wg p l e (rmG 10 312 2385) s m args below meth c E (MQ below (gQ E (fun v h' => v = none ∧ TR E h' r T ws.length (wtOf cw ce ws lk) (fun i j => sOf st fi (some i) j) ∧ Fr [20, 21, 22, 50] h h')) args s 312 2385 (gA E)) 50 [some (.ref r), some (.ref T), some (.int (nI i)), none, none] [] hh (12 + i * 60) (60 + i * 465) := by
    intro d
    induction d with
    | zero =>
      intro i hh fW fS hi hF hR hMW hMS hdW
      obtain rfl : i = ws.length := by omega
      refine g_iload_n O dX9_init_50 rfl ?_
      refine g_aload_n O dX9_init_51 rfl (by first | rfl | exact rf_ref _) ?_
      refine g_get O 10 0 rfl hR dX9_init_52 q1287 rfl (by decide) rfl rfl ?_
      refine g_icmp_ge O 129 dX9_init_55 (by decide) (fun hc => ?_) (fun hc => ?_)
      · refine g_iconst O dX9_init_129 (nI 0) rfl ?_
        refine g_istore_n O rfl dX9_init_130 rfl ?_
        refine Wg.wide 312 2385 (by omega) (by omega) ?_
        exact last 5 0 hh fW fS (by omega) hF hR hMW hMS hdW (fun a b ha hb => absurd ha (Nat.not_lt_zero _))
      · exact absurd (Int32.le_refl _) hc
    | succ d ih =>
      have inner : ∀ d2 j i hh fW fS, i + (d + 1) = ws.length → j + d2 = 5 → Fr [20, 21, 22, 50] h hh → hh r = some (20, .inr (10, [.int (nI ws.length), .ref aW, .ref aS, .ref T])) → MX E hh 21 aW ws.length 5 fW → MX E hh 22 aS 5 5 fS → (∀ a b, a < i → b < 5 → fW a b = wtOf cw ce ws lk a b) → (∀ b, b < j → fW i b = wtOf cw ce ws lk i b) → Wg p l e (rmG 10 312 2385) s m args below meth c E (MQ below (gQ E (fun v h' => v = none ∧ TR E h' r T ws.length (wtOf cw ce ws lk) (fun i j => sOf st fi (some i) j) ∧ Fr [20, 21, 22, 50] h h')) args s 312 2385 (gA E)) 68 [some (.ref r), some (.ref T), some (.int (nI i)), some (.int (nOf (lk i))), some (.int (nI j))] [] hh (12 + i * 60 + j * 12) (60 + i * 465 + j * 93) := by
        intro d2
        induction d2 with
        | zero =>
          intro j i hh fW fS hi hj hF hR hMW hMS hdW hdI
          obtain rfl : j = 5 := by omega
          refine g_iload O dX9_init_68 rfl ?_
          refine g_iconst O dX9_init_70 (nI 5) rfl ?_
          refine g_icmp_ge O 123 dX9_init_71 (by decide) (fun hc => ?_) (fun hc => ?_)
          · refine g_iinc O dX9_init_123 rfl (by first | rfl | exact rf_lok rfl) ?_
            refine g_goto O 50 dX9_init_126 (by decide) ?_
            refine Wg.fg 3 (Wg.fg 4 ?_)
            refine Wg.L [some (.ref r), some (.ref T), some (.int (nI (i + 1))), none, none] (by rw [← nI_1 i]; rfl) ?_
            refine Wg.wide (12 + (i + 1) * 60) (60 + (i + 1) * 465) (by omega) (by omega) ?_
            refine ih (i + 1) hh fW fS (by omega) hF hR hMW hMS (fun a b ha hb => ?_)
            rcases Nat.lt_or_ge a i with z | z
            · exact hdW a b z hb
            · rw [show a = i by omega]; exact hdI b hb
          · exact absurd (Int32.le_refl _) hc
        | succ d2 ih2 =>
          intro j i hh fW fS hi hj hF hR hMW hMS hdW hdI
          obtain ⟨g, m1, m2, m3⟩ := hMW
          obtain ⟨r0, row0, e1, e2, e3⟩ := m2 i (by omega)
          have store : ∀ (h3 : HV) (v : Nat), Fr [50] hh h3 → v = wtOf cw ce ws lk i j → Wg p l e (rmG 10 312 2385) s m args below meth c E (MQ below (gQ E (fun v h' => v = none ∧ TR E h' r T ws.length (wtOf cw ce ws lk) (fun i j => sOf st fi (some i) j) ∧ Fr [20, 21, 22, 50] h h')) args s 312 2385 (gA E)) 116 [some (.ref r), some (.ref T), some (.int (nI i)), some (.int (nOf (lk i))), some (.int (nI j))] [.int (nI v), .int (nI j), .ref r0] h3 (12 + i * 60 + (j + 1) * 12) (60 + i * 465 + (j + 1) * 93) := by
            intro h3 v F3 hv
            have e2' := F3 _ _ e2 (show 21 ∉ [50] by decide)
            refine g_iast O j rfl (by omega) (by decide) e2' (by decide) dX9_init_116 ?_
            refine g_iinc O dX9_init_117 rfl (by first | rfl | exact rf_lok rfl) ?_
            refine g_goto O 68 dX9_init_120 (by decide) ?_
            refine Wg.L [some (.ref r), some (.ref T), some (.int (nI i)), some (.int (nOf (lk i))), some (.int (nI (j + 1)))] (by rw [← nI_1 j]; rfl) ?_
            have F2 : Fr [21] h3 (hup h3 r0 (21, cInts E 5 (upd row0 j (nI v)))) := Fr.rf.up e2' (by decide)
            have m1' := F3 _ _ m1 (show 21 ∉ [50] by decide)
            refine ih2 (j + 1) i _ (fu2 fW i j v) fS hi (by omega) ((hF.tr (F3.mono (by decide))).tr (F2.mono (by decide))) (F2 _ _ (F3 _ _ hR (show 20 ∉ [50] by decide)) (show 20 ∉ [21] by decide)) (MX.set rfl m1' (fun a ha => by obtain ⟨r1, row1, y1, y2, y3⟩ := m2 a ha; exact ⟨r1, row1, y1, F3 _ _ y2 (show 21 ∉ [50] by decide), y3⟩) m3 (by omega) e1 e2' e3 (hv_ne m1' e2' rows_ne)) ((hMS.fr F3 (by decide)).fr F2 (by decide)) (fun a b ha hb => ?_) (fun b hb => ?_)
            · unfold fu2
              rw [if_neg (fun z => by omega)]
              exact hdW a b ha hb
            · unfold fu2
              by_cases hbj : b = j
              · rw [if_pos ⟨rfl, hbj⟩, hbj]; exact hv
              · rw [if_neg (fun z => hbj z.2)]
                exact hdI b (by omega)
          have hlki : ∀ k, lk i = some k → k < 5 := hlk i
          refine g_iload O dX9_init_68 rfl ?_
          refine g_iconst O dX9_init_70 (nI 5) rfl ?_
          refine g_icmp_ge O 123 dX9_init_71 (by decide) (fun hc => ?_) (fun hc => ?_)
          · exact absurd ((nI_leI (by decide) (by omega)).mp hc) (by omega)
          · refine g_aload_n O dX9_init_74 rfl (by first | rfl | exact rf_ref _) ?_
            refine g_get O 10 1 rfl hR dX9_init_75 q1289 rfl (by decide) rfl rfl ?_
            refine g_iload_n O dX9_init_78 rfl ?_
            refine g_aaldA O 5 i rfl rfl (by omega) (by omega) m1 dX9_init_79 ?_
            rw [e1]
            obtain ⟨aw, ae, ast, afi, ase, alo, cap, x4, x5, x8, li, row, q1, q2, q3, q4, q5, q6, q7, q8, q9, q10, q11, q12, q13, q14, q15, q16⟩ := hQ0.fr hF dS
            have weigh : (lk i = none ∨ lk i = some j) → Wg p l e (rmG 10 312 2385) s m args below meth c E (MQ below (gQ E (fun v h' => v = none ∧ TR E h' r T ws.length (wtOf cw ce ws lk) (fun i j => sOf st fi (some i) j) ∧ Fr [20, 21, 22, 50] h h')) args s 312 2385 (gA E)) 97 [some (.ref r), some (.ref T), some (.int (nI i)), some (.int (nOf (lk i))), some (.int (nI j))] [.int (nI j), .ref r0] hh (12 + i * 60 + j * 12) (60 + i * 465 + j * 93) := by
              intro hl
              have hwi : ws[i]? = some ws[i] := List.getElem?_eq_getElem (by omega)
              obtain ⟨b, e4, e5, e6⟩ := q8 i _ hwi
              obtain ⟨fsb, hcb⟩ := e5.cell
              have hse : ∃ mo arr, hh ase = some (12, cList mo arr li.length) := by
                obtain ⟨mo, arr, la, g, z, -⟩ := q6
                exact ⟨mo, arr, z⟩
              obtain ⟨mo, arr, hse⟩ := hse
              refine g_aload_n O dX9_init_97 rfl (by first | rfl | exact rf_ref _) ?_
              refine g_aload_n O dX9_init_98 rfl (by first | rfl | exact rf_ref _) ?_
              refine g_getN O 0 6 rfl q1 dX9_init_99 q184 rfl (by decide) rfl rfl ?_
              refine g_iload_n O dX9_init_102 rfl ?_
              refine g_callF O (n := 1) (x := ⟨"java/util/List", "get", "(I)Ljava/lang/Object;"⟩) (c_J4_get l E hh q6 e4) rfl rfl hse dX9_init_103 q1283 q1191 q1189 q45 q1193 q1188 q1192 q1190 q217 (O.k.2.2.2.2.2.2.2.1 _ (by decide)) (by decide +kernel) rfl rfl (by first | decide | omega) (by decide) (by first | exact Nat.le_of_ble_eq_true rfl | omega) (by first | exact Nat.le_of_ble_eq_true rfl | omega) (by first | exact Nat.le_of_ble_eq_true rfl | omega) (fun v h1 hp => ?_)
              obtain ⟨rfl, rfl⟩ := hp
              refine g_castS O rfl hcb q1284 dX9_init_108 ?_
              refine g_iload O dX9_init_111 rfl ?_
              refine g_callVN O (n := 2) (c_X1_weightOf l E hh (tag := j) q1 (by decide) (by decide) (by decide) (by decide) (by decide) (by decide) q2 q3 e5 e6 (by omega) q13 q14) rfl rfl q1 dX9_init_113 q1285 q1221 qs13 q36 q1222 (by decide +kernel) rfl rfl (by first | decide | omega) (by decide) (by first | exact Nat.le_of_ble_eq_true rfl | omega) (by first | exact Nat.le_of_ble_eq_true rfl | omega) (by first | exact Nat.le_of_ble_eq_true rfl | omega) (fun v h1 hp => ?_)
              obtain ⟨rfl, F3⟩ := hp
              refine Wg.wide (12 + i * 60 + (j + 1) * 12) (60 + i * 465 + (j + 1) * 93) (by omega) (by omega) ?_
              refine store _ _ F3 ?_
              unfold wtOf
              rw [if_pos hl, List.getD_eq_getElem?_getD, hwi]
              rfl
            refine g_iload O dX9_init_80 rfl ?_
            refine g_iload_n O dX9_init_82 rfl ?_
            refine g_iconst O dX9_init_83 (-1) rfl ?_
            refine g_icmp_eq O 97 dX9_init_84 (by decide) (fun hc2 => ?_) (fun hc2 => ?_)
            · exact weigh (Or.inl ((nOf_none hlki).mp hc2))
            · refine g_iload_n O dX9_init_87 rfl ?_
              refine g_iload O dX9_init_88 rfl ?_
              refine g_icmp_eq O 97 dX9_init_90 (by decide) (fun hc3 => ?_) (fun hc3 => ?_)
              · exact weigh (Or.inr ((nOf_eq hlki (by omega)).mp hc3))
              · refine g_iconst O dX9_init_93 (nI 0) rfl ?_
                refine g_goto O 116 dX9_init_94 (by decide) ?_
                refine Wg.wide (12 + i * 60 + (j + 1) * 12) (60 + i * 465 + (j + 1) * 93) (by omega) (by omega) ?_
                refine store hh 0 Fr.rf ?_
                unfold wtOf
                rw [if_neg (fun z => z.elim (fun z => hc2 ((nOf_none hlki).mpr z)) (fun z => hc3 ((nOf_eq hlki (by omega)).mpr z)))]
      intro i hh fW fS hi hF hR hMW hMS hdW
      obtain ⟨aw, ae, ast, afi, ase, alo, cap, x4, x5, x8, li, row, q1, q2, q3, q4, q5, q6, q7, q8, q9, q10, q11, q12, q13, q14, q15, q16⟩ := hQ0.fr hF dS
      refine g_iload_n O dX9_init_50 rfl ?_
      refine g_aload_n O dX9_init_51 rfl (by first | rfl | exact rf_ref _) ?_
      refine g_get O 10 0 rfl hR dX9_init_52 q1287 rfl (by decide) rfl rfl ?_
      refine g_icmp_ge O 129 dX9_init_55 (by decide) (fun hc => ?_) (fun hc => ?_)
      · exact absurd ((nI_leI (by omega) (by omega)).mp hc) (by omega)
      · refine g_aload_n O dX9_init_58 rfl (by first | rfl | exact rf_ref _) ?_
        refine g_getN O 0 7 rfl q1 dX9_init_59 q186 rfl (by decide) rfl rfl ?_
        refine g_iload_n O dX9_init_62 rfl ?_
        refine g_iald O i rfl (by omega) (by decide) q9 dX9_init_63 ?_
        rw [q10 i (by omega)]
        refine g_istore_n O rfl dX9_init_64 rfl ?_
        refine g_iconst O dX9_init_65 (nI 0) rfl ?_
        refine g_istore O dX9_init_66 rfl ?_
        refine Wg.wide (12 + i * 60 + 0 * 12) (60 + i * 465 + 0 * 93) (by omega) (by omega) ?_
        exact inner 5 0 i hh fW fS hi (by omega) hF hR hMW hMS hdW (fun b hb => absurd hb (Nat.not_lt_zero _))
  refine g_iconst O dX9_init_48 (nI 0) rfl ?_
  refine g_istore_n O rfl dX9_init_49 rfl ?_
  refine Wg.wide (12 + 0 * 60) (60 + 0 * 465) (by omega) (by omega) ?_
  exact first ws.length 0 _ _ _ (by omega) (FF.mono (by decide)) RF MF NF (fun a b ha hb => absurd ha (Nat.not_lt_zero _))
