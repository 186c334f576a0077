set_option maxRecDepth 100000
/-! paths: their texts, how they compare -/
/-- the cells stay, but those with a label of S and those at the addresses l -/
def ExF (S l : List Nat) (h h' : HV) : Prop := ∀ (b : Nat) (c : Nat × va_E), h b = some c → c.1 ∉ S → b ∉ l → h' b = some c
theorem ExF.rf {S l : List Nat} {h : HV} : ExF S l h h := fun b c e _ _ => e
theorem ExF.tr {S l : List Nat} {h h1 h2 : HV} (a : ExF S l h h1) (b : ExF S l h1 h2) : ExF S l h h2 := fun x c e n1 n2 => b x c (a x c e n1 n2) n1 n2
theorem ExF.mono {S S' l l' : List Nat} {h h1 : HV} (a : ExF S l h h1) (s : ∀ x ∈ S, x ∈ S') (t : ∀ x ∈ l, x ∈ l') : ExF S' l' h h1 := fun x c e n1 n2 => a x c e (fun z => n1 (s _ z)) (fun z => n2 (t _ z))
theorem Fr.exf {S l : List Nat} {h h1 : HV} (a : Fr S h h1) : ExF S l h h1 := fun x c e n1 _ => a x c e n1
abbrev txt (ts : List Nat) : List Nat := ts.map (48 + ·)
/-- a Path with the tags ts and the weight w -/
def PT (E : GE) (h : HV) (lp x : Nat) (ts : List Nat) (w : Nat) : Prop := ∃ (arr : Nat) (row : Nat → Int32) (o : Option Nat), h x = some (lp, .inr (9, [.ref arr, .long (lN w), va_rf o])) ∧ h arr = some (lp, cInts E ts.length row) ∧ (∀ j t, ts[j]? = some t → t < 5 ∧ row j = nI t) ∧ ts.length ≤ 5 ∧ ∀ q, o = some q → Str E h q (txt ts)
theorem PT.cell {E : GE} {h : HV} {lp x w : Nat} {ts : List Nat} (P : PT E h lp x ts w) : ∃ (arr : Nat) (o : Option Nat), h x = some (lp, .inr (9, [.ref arr, .long (lN w), va_rf o])) := by
  obtain ⟨arr, row, o, p1, -⟩ := P
  exact ⟨arr, o, p1⟩
theorem PT.fr {E : GE} {h h' : HV} {lp x w : Nat} {ts S : List Nat} (F : Fr S h h') (h0 : 0 ∉ S) (h1 : lp ∉ S) (P : PT E h lp x ts w) : PT E h' lp x ts w := by
  obtain ⟨arr, row, o, p1, p2, p3, p4, p5⟩ := P
  exact ⟨arr, row, o, F _ _ p1 h1, F _ _ p2 h1, p3, p4, fun q e => (p5 q e).fr F h0⟩
theorem Str.exf {E : GE} {h h' : HV} {a x : Nat} {t S : List Nat} {c : Nat × va_E} (F : ExF S [x] h h') (h0 : 0 ∉ S) (hx : h x = some c) (hc : c.1 ≠ 0) (A : Str E h a t) : Str E h' a t := by
  obtain ⟨arr, f, u, v, h1, h2, h3⟩ := A
  have n : ∀ b d, h b = some (0, d) → b ∉ [x] := fun b d e z => by
    rw [List.mem_singleton.mp z, hx] at e
    cases e
    exact hc rfl
  exact ⟨arr, f, u, v, F _ _ h1 h0 (n _ _ h1), F _ _ h2 h0 (n _ _ h2), h3⟩
/-- another path's text may be made -/
theorem PT.exf {E : GE} {h h' : HV} {lp x y w lx : Nat} {ts S : List Nat} {fs : List Value} (F : ExF S [y] h h') (h0 : 0 ∉ S) (h1 : lp ∉ S) (hy : h y = some (lx, .inr (9, fs))) (hl : lx ≠ 0) (hxy : x ≠ y) (P : PT E h lp x ts w) : PT E h' lp x ts w := by
  obtain ⟨arr, row, o, p1, p2, p3, p4, p5⟩ := P
  refine ⟨arr, row, o, F _ _ p1 h1 (fun z => hxy (List.mem_singleton.mp z)), F _ _ p2 h1 (fun z => ?_), p3, p4, fun q e => (p5 q e).exf F h0 hy hl⟩
  rw [List.mem_singleton.mp z, hy] at p2
  cases p2
theorem PT.ts_eq {E : GE} {h : HV} {lp x w w' : Nat} {ts ts' : List Nat} (P : PT E h lp x ts w) (P' : PT E h lp x ts' w') : ts = ts' ∧ lN w = lN w' := by
  obtain ⟨arr, row, o, p1, p2, p3, p4, p5⟩ := P
  obtain ⟨arr', row', o', q1, q2, q3, q4, q5⟩ := P'
  rw [p1] at q1
  have e1 := Option.some.inj q1
  have e2 := Sum.inr.inj (Prod.mk.inj e1).2
  have e3 := (Prod.mk.inj e2).2
  obtain ⟨f1, f2⟩ := List.cons.inj e3
  obtain ⟨f3, -⟩ := List.cons.inj f2
  have f1 := Value.ref.inj f1
  have f3 := Value.long.inj f3
  subst f1
  rw [p2] at q2
  have g1 := Sum.inl.inj (Prod.mk.inj (Option.some.inj q2)).2
  have g2 := Prod.mk.inj (Prod.mk.inj g1).2
  have hl : ts.length = ts'.length := g2.1
  have hr : row = row' := Sum.inl.inj g2.2
  refine ⟨List.ext_getElem? (fun j => ?_), f3⟩
  rcases Nat.lt_or_ge j ts.length with z | z
  · have a1 : ts[j]? = some ts[j] := List.getElem?_eq_getElem z
    have a2 : ts'[j]? = some ts'[j] := List.getElem?_eq_getElem (by omega)
    obtain ⟨b1, b2⟩ := p3 j _ a1
    obtain ⟨c1, c2⟩ := q3 j _ a2
    rw [hr, c2] at b2
    rw [a1, a2, (nI_eq (by omega) (by omega)).mp b2]
  · rw [List.getElem?_eq_none (by omega), List.getElem?_eq_none (by omega)]
/-- the path x has made its text -/
def txtd (lp : Nat) (h : HV) (x : Nat) : Prop := ∃ (a b : Value) (q : Nat), h x = some (lp, .inr (9, [a, b, .ref q]))
/-- all paths are paths still, with their texts -/
def PK (E : GE) (lp : Nat) (S : List Nat) (h h' : HV) : Prop := (∀ y ts w, PT E h lp y ts w → PT E h' lp y ts w) ∧ (∀ y, txtd lp h y → txtd lp h' y) ∧ Fr S h h'
theorem PK.rf {E : GE} {lp : Nat} {S : List Nat} {h : HV} : PK E lp S h h := ⟨fun _ _ _ P => P, fun _ P => P, Fr.rf⟩
theorem PK.tr {E : GE} {lp : Nat} {S : List Nat} {h h1 h2 : HV} (a : PK E lp S h h1) (b : PK E lp S h1 h2) : PK E lp S h h2 := ⟨fun y ts w P => b.1 y ts w (a.1 y ts w P), fun y P => b.2.1 y (a.2.1 y P), a.2.2.tr b.2.2⟩
theorem PK.mono {E : GE} {lp : Nat} {S S' : List Nat} {h h1 : HV} (a : PK E lp S h h1) (s : ∀ x ∈ S, x ∈ S') : PK E lp S' h h1 := ⟨a.1, a.2.1, a.2.2.mono s⟩
theorem PK.fr {E : GE} {lp : Nat} {S : List Nat} {h h1 : HV} (a : Fr S h h1) (h0 : 0 ∉ S) (hl : lp ∉ S) : PK E lp S h h1 := ⟨fun y ts w P => P.fr a h0 hl, fun y ⟨u, v, q, e⟩ => ⟨u, v, q, a _ _ e hl⟩, a⟩
theorem PK.one {E : GE} {lp x w : Nat} {ts : List Nat} {h h1 : HV} (hlp : lp ≠ 0) (hl5 : lp ≠ 51) (P : PT E h lp x ts w) (P' : PT E h1 lp x ts w) (T : txtd lp h1 x) (F : ExF [51] [x] h h1) : PK E lp [51, lp] h h1 := by
  have n0 : 0 ∉ [51] := by decide
  have n51 : lp ∉ [51] := fun z => hl5 (List.mem_singleton.mp z)
  obtain ⟨ar, o, c1⟩ := P.cell
  refine ⟨fun y ts' w' P2 => ?_, fun y => ?_, fun b c e n => F b c e (fun z => n (by rw [List.mem_singleton.mp z]; simp)) (fun z => ?_)⟩
  · by_cases h : y = x
    · subst h
      obtain ⟨rfl, e⟩ := P.ts_eq P2
      obtain ⟨arr, row, o, p1, p⟩ := P'
      exact ⟨arr, row, o, by rw [← e]; exact p1, p⟩
    · exact P2.exf F n0 n51 c1 hlp h
  · rintro ⟨u, v, q, e⟩
    by_cases h : y = x
    · subst h
      exact T
    · exact ⟨u, v, q, F _ _ e n51 (fun z => h (List.mem_singleton.mp z))⟩
  · rw [List.mem_singleton.mp z, c1] at e
    cases e
    exact n (by simp)
theorem c_X11_toString (l : Launch) (E : GE) (h : HV) {lp x w : Nat} {ts : List Nat} (u : Nat) (hlp : lp ≠ 0) (hl5 : lp ≠ 51) (P : PT E h lp x ts w) (hu : u = 0 → txtd lp h x) : Cg l E yX11_toString cX11_toString 6 (some (.object "java/lang/String")) 6 (4 * u) (29 * u) [.ref x] h (fun v h' => (∃ q, v = some (.ref q) ∧ Str E h' q (txt ts)) ∧ PT E h' lp x ts w ∧ txtd lp h' x ∧ ExF [51] [x] h h') := by
  have P0 := P
  obtain ⟨arr, row, o, p1, p2, p3, p4, p5⟩ := P
  refine Cg.of (by first | exact plainFor_of_name (by decide) | decide +kernel) [some (.ref x), none, none, none, none, none] (Nat.le_of_ble_eq_true rfl) rfl ?_
  intro p e s m args below meth c O
  refine g_aload_n O dX11_toString_0 rfl (by first | rfl | exact rf_ref _) ?_
  refine g_get O 9 2 rfl p1 dX11_toString_1 q1370 rfl (by decide) rfl rfl ?_
  cases o with
  | some q =>
    refine g_ifnonnull O 63 dX11_toString_4 (by decide) rfl (fun hc => ?_) (fun hc_a hc => ?_)
    · cases hc
    · refine g_aload_n O dX11_toString_63 rfl (by first | rfl | exact rf_ref _) ?_
      refine g_get O 9 2 rfl p1 dX11_toString_64 q1370 rfl (by decide) rfl rfl ?_
      exact g_aret O dX11_toString_67 (by first | exact Or.inl ⟨_, rfl⟩ | exact Or.inr ⟨_, rfl⟩) (by first | exact Or.inl rfl | exact Or.inr ⟨_, rfl⟩) (by first | exact Nat.le_of_ble_eq_true rfl | omega) (by first | exact Nat.le_of_ble_eq_true rfl | omega) ⟨⟨q, rfl, p5 q rfl⟩, P0, ⟨_, _, q, p1⟩, ExF.rf⟩
  | none =>
    have hu1 : 1 ≤ u := by
      rcases Nat.eq_zero_or_pos u with z | z
      · obtain ⟨y1, y2, y3, y4⟩ := hu z
        rw [p1] at y4
        cases y4
      · exact z
    refine g_ifnonnull O 63 dX11_toString_4 (by decide) rfl (fun hc => ?_) (fun hc_a hc => ?_)
    · refine g_new O 51 14 [.null, .int 0, .int 0, .int 0] rfl dX11_toString_7 q870 q413 q54 rfl (by first | exact Nat.le_of_ble_eq_true rfl | omega) (by first | exact Nat.le_of_ble_eq_true rfl | omega) (fun sb hsb => ?_)
      refine g_dup O dX11_toString_10 rfl ?_
      refine g_callI O (n := 0) (c_J12_init l E _ hup_self (by decide)) rfl dX11_toString_11 q871 q415 q54 q416 rfl (by decide +kernel) rfl rfl (by first | decide | omega) (by decide) (by first | exact Nat.le_of_ble_eq_true rfl | omega) (by first | exact Nat.le_of_ble_eq_true rfl | omega) (by first | exact Nat.le_of_ble_eq_true rfl | omega) (fun v h1 hp => ?_)
      obtain ⟨rfl, hS, hE⟩ := hp
      have hF : Fr [51] h h1 := fun y c hy hn => hE y c ((hup_ne (hv_neN hy hsb)).trans hy) (fun z => by
        rw [List.mem_singleton.mp z, hsb] at hy
        cases hy)
      have n51 : lp ∉ [51] := fun z => hl5 (List.mem_singleton.mp z)
      have loop : ∀ d j hh, j + d = ts.length → SB E hh 51 sb (txt (ts.take j)) → Fr [51] h hh → Wg p l e (rmG 6 (4 * u) (29 * u)) s m args below meth c E (MQ below (gQ E (fun v h' => (∃ q, v = some (.ref q) ∧ Str E h' q (txt ts)) ∧ PT E h' lp x ts w ∧ txtd lp h' x ∧ ExF [51] [x] h h')) args s (4 * u) (29 * u) (gA E)) 26 [some (.ref x), some (.ref sb), some (.ref arr), some (.int (nI ts.length)), some (.int (nI j)), none] [] hh (2) (20) := by
        intro d
        induction d with
        | zero =>
          intro j hh hj hS hF
          obtain rfl : j = ts.length := by omega
          rw [List.take_length] at hS
          have hlen : (txt ts).length = ts.length := List.length_map _
          have hS' := hS
          obtain ⟨brr, f, hc1, -⟩ := hS'
          refine g_iload O dX11_toString_26 rfl ?_
          refine g_iload_n O dX11_toString_28 rfl ?_
          refine g_icmp_ge O 55 dX11_toString_29 (by decide) (fun hc2 => ?_) (fun hc2 => ?_)
          · refine g_aload_n O dX11_toString_55 rfl (by first | rfl | exact rf_ref _) ?_
            refine g_aload_n O dX11_toString_56 rfl (by first | rfl | exact rf_ref _) ?_
            refine g_callV O (n := 0) (c_J12_toString l E hh hS (by omega)) rfl rfl hc1 dX11_toString_57 q873 q573 q574 q54 q575 rfl (by decide +kernel) rfl rfl (by first | decide | omega) (by decide) (by first | exact Nat.le_of_ble_eq_true rfl | omega) (by omega) (by omega) (fun v h2 hp => ?_)
            obtain ⟨q, rfl, hq, hA, hF2⟩ := hp
            have F2 := hF.tr (hF2.mono (S' := [51]) (fun y hy => by cases hy))
            have c1 := F2 _ _ p1 n51
            refine g_put O 9 2 rfl c1 hlp dX11_toString_60 q1370 rfl (by decide) rfl rfl rfl (by first | exact Nat.le_of_ble_eq_true rfl | omega) ?_
            refine g_aload_n O dX11_toString_63 rfl (by first | rfl | exact rf_ref _) ?_
            refine g_get O 9 2 rfl hup_self dX11_toString_64 q1370 rfl (by decide) rfl rfl ?_
            have F3 : Fr [lp] h2 (hup h2 x (lp, .inr (9, [.ref arr, .long (lN w), .ref q]))) := Fr.rf.up c1 (List.mem_singleton.mpr rfl)
            have hA3 := hA.fr F3 (fun z => hlp (List.mem_singleton.mp z).symm)
            have narr : arr ≠ x := fun z => by rw [z, p1] at p2; cases p2
            refine g_aret O dX11_toString_67 (Or.inl ⟨_, rfl⟩) (Or.inr ⟨_, rfl⟩) (by omega) (by omega) ⟨⟨q, rfl, hA3⟩, ⟨arr, row, some q, hup_self, (hup_ne narr).trans (F2 _ _ p2 n51), p3, p4, fun q' e => by cases e; exact hA3⟩, ⟨_, _, q, hup_self⟩, fun y c hy n1 n2 => ?_⟩
            exact (hup_ne (fun z => n2 (List.mem_singleton.mpr z))).trans (F2 _ _ hy n1)
          · exact absurd (Int32.le_refl _) hc2
        | succ d ih =>
          intro j hh hj hS hF
          have hlen : (txt (ts.take j)).length = j := by rw [List.length_map, List.length_take]; omega
          have ht : ts[j]? = some ts[j] := List.getElem?_eq_getElem (by omega)
          obtain ⟨u1, u2⟩ := p3 j _ ht
          have hS' := hS
          obtain ⟨brr, f, hc1, -⟩ := hS'
          refine g_iload O dX11_toString_26 rfl ?_
          refine g_iload_n O dX11_toString_28 rfl ?_
          refine g_icmp_ge O 55 dX11_toString_29 (by decide) (fun hc2 => ?_) (fun hc2 => ?_)
          · exact absurd ((nI_leI (by omega) (by omega)).mp hc2) (by omega)
          · refine g_aload_n O dX11_toString_32 rfl (by first | rfl | exact rf_ref _) ?_
            refine g_iload O dX11_toString_33 rfl ?_
            refine g_iald O j rfl (by omega) (by omega) (hF _ _ p2 n51) dX11_toString_35 ?_
            rw [u2]
            refine g_istore O dX11_toString_36 rfl ?_
            refine g_aload_n O dX11_toString_38 rfl (by first | rfl | exact rf_ref _) ?_
            refine g_bipush O dX11_toString_39 (nI 48) rfl ?_
            refine g_iload O dX11_toString_41 rfl ?_
            refine g_iadd O dX11_toString_43 ?_
            rw [nI_add]
            refine g_i2c O dX11_toString_44 ?_
            rw [(byte_nI (c := 48 + ts[j]) (by omega)).2.1]
            refine g_callV O (n := 1) (c_J12_append_2 l E hh (k := 48 + ts[j]) hS (by decide) (by omega) (by omega)) rfl rfl hc1 dX11_toString_45 q872 q553 q554 q54 q555 rfl (by decide +kernel) rfl rfl (by first | decide | omega) (by decide) (by first | exact Nat.le_of_ble_eq_true rfl | omega) (by first | exact Nat.le_of_ble_eq_true rfl | omega) (by first | exact Nat.le_of_ble_eq_true rfl | omega) (fun v h1 hp => ?_)
            obtain ⟨rfl, hS2, hF2⟩ := hp
            refine g_pop O dX11_toString_48 rfl ?_
            refine g_iinc O dX11_toString_49 rfl (by first | rfl | exact rf_lok rfl) ?_
            refine g_goto O 26 dX11_toString_52 (by decide) ?_
            refine Wg.fg 5 ?_
            refine Wg.L [some (.ref x), some (.ref sb), some (.ref arr), some (.int (nI ts.length)), some (.int (nI (j + 1))), none] (by rw [← nI_1 j]; rfl) ?_
            refine ih (j + 1) _ (by omega) ?_ (hF.tr hF2)
            rw [List.take_succ_eq_append_getElem (by omega : j < ts.length), txt, List.map_append]
            exact hS2
      refine g_astore_n O rfl dX11_toString_14 (by first | rfl | exact rf_ref _) (by first | rfl | exact rf_lst ⟨rfl, rfl⟩) ?_
      refine g_aload_n O dX11_toString_15 rfl (by first | rfl | exact rf_ref _) ?_
      refine g_get O 9 0 rfl (hF _ _ p1 n51) dX11_toString_16 q1362 rfl (by decide) rfl rfl ?_
      refine g_astore_n O rfl dX11_toString_19 (by first | rfl | exact rf_ref _) (by first | rfl | exact rf_lst ⟨rfl, rfl⟩) ?_
      refine g_aload_n O dX11_toString_20 rfl (by first | rfl | exact rf_ref _) ?_
      refine g_alen O 0 rfl (hF _ _ p2 n51) dX11_toString_21 ?_
      refine g_istore_n O rfl dX11_toString_22 rfl ?_
      refine g_iconst O dX11_toString_23 (nI 0) rfl ?_
      refine g_istore O dX11_toString_24 rfl ?_
      exact loop ts.length 0 h1 (by omega) hS hF
    · cases hc
/-- how two paths compare: the heavier one first, then by their tags -/
def cmpP (w1 w2 : Nat) (t1 t2 : List Nat) : Int := if w1 = w2 then cmpW (txt t1) (txt t2) else if w2 < w1 then -1 else 1
theorem c_X10_compare_2 (l : Launch) (E : GE) (h : HV) {b lp x y w1 w2 lb : Nat} {t1 t2 : List Nat} {fs : List Value} (u1 u2 k : Nat) (hlp : lp ≠ 0) (hl5 : lp ≠ 51) (hb : h b = some (lb, .inr (8, fs))) (P1 : PT E h lp x t1 w1) (P2 : PT E h lp y t2 w2) (h1 : w1 < 2 ^ 63) (h2 : w2 < 2 ^ 63) (hu1 : u1 = 0 → txtd lp h x) (hu2 : u2 = 0 → txtd lp h y) (hk : w1 = w2 → u1 + u2 ≤ k) : Cg l E yX10_compare_2 cX10_compare_2 3 (some .int) 7 (4 * k) (29 * k) [.ref b, .ref x, .ref y] h (fun v h' => (∃ r : Int32, v = some (.int r) ∧ r.toInt = cmpP w1 w2 t1 t2) ∧ PK E lp [51, lp] h h' ∧ (w1 = w2 → txtd lp h' x ∧ txtd lp h' y)) := by
  obtain ⟨a1, o1, c1⟩ := P1.cell
  obtain ⟨a2, o2, c2⟩ := P2.cell
  have len1 : (txt t1).length ≤ 5 := by obtain ⟨arr, row, o, -, -, -, p4, -⟩ := P1; rw [List.length_map]; exact p4
  refine Cg.of (by first | exact plainFor_of_name (by decide) | decide +kernel) [some (.ref b), some (.ref x), some (.ref y)] (Nat.le_of_ble_eq_true rfl) rfl ?_
  intro p e s m args below meth c O
  refine g_aload_n O dX10_compare_2_0 rfl (by first | rfl | exact rf_ref _) ?_
  refine g_get O 9 1 rfl c1 dX10_compare_2_1 q1366 rfl (by decide) rfl rfl ?_
  refine g_aload_n O dX10_compare_2_4 rfl (by first | rfl | exact rf_ref _) ?_
  refine g_get O 9 1 rfl c2 dX10_compare_2_5 q1366 rfl (by decide) rfl rfl ?_
  refine g_lcmp O dX10_compare_2_8 ?_
  rcases lcmp_cases h1 h2 with ⟨e1, e2⟩ | ⟨e1, e2⟩ | ⟨e1, e2⟩
  · rw [e1]
    refine g_if_eq O 26 dX10_compare_2_9 (by decide) (fun hc => ?_) (fun hc => ?_)
    · exact absurd hc (by decide)
    · refine g_aload_n O dX10_compare_2_12 rfl (by first | rfl | exact rf_ref _) ?_
      refine g_get O 9 1 rfl c2 dX10_compare_2_13 q1366 rfl (by decide) rfl rfl ?_
      refine g_aload_n O dX10_compare_2_16 rfl (by first | rfl | exact rf_ref _) ?_
      refine g_get O 9 1 rfl c1 dX10_compare_2_17 q1366 rfl (by decide) rfl rfl ?_
      refine g_callS O (n := 2) (c_J24_compare l E h w2 w1 h2 h1) rfl dX10_compare_2_20 q863 q864 q70 q865 (by decide +kernel) rfl rfl (by first | decide | omega) (by decide) (by first | exact Nat.le_of_ble_eq_true rfl | omega) (by first | exact Nat.le_of_ble_eq_true rfl | omega) (by first | exact Nat.le_of_ble_eq_true rfl | omega) (fun v h1 hp => ?_)
      obtain ⟨rfl, rfl⟩ := hp
      refine g_goto O 37 dX10_compare_2_23 (by decide) ?_
      exact g_iret O dX10_compare_2_37 (by first | exact Nat.le_of_ble_eq_true rfl | omega) (by first | exact Nat.le_of_ble_eq_true rfl | omega) ⟨⟨_, rfl, by rw [if_neg (by omega), if_neg (by omega)]; unfold cmpP; rw [if_neg (by omega), if_neg (by omega)]; decide⟩, PK.rf, fun z => absurd z (by omega)⟩
  · rw [e1]
    have hk := hk e2
    refine g_if_eq O 26 dX10_compare_2_9 (by decide) (fun hc => ?_) (fun hc => ?_)
    · refine g_aload_n O dX10_compare_2_26 rfl (by first | rfl | exact rf_ref _) ?_
      refine g_callV O (n := 0) (c_X11_toString l E h u1 hlp hl5 P1 hu1) rfl rfl c1 dX10_compare_2_27 q866 q867 q868 q79 q869 rfl (by decide +kernel) rfl rfl (by first | decide | omega) (by decide) (by first | exact Nat.le_of_ble_eq_true rfl | omega) (by first | exact Nat.le_of_ble_eq_true rfl | omega) (by first | exact Nat.le_of_ble_eq_true rfl | omega) (fun v h1 hp => ?_)
      obtain ⟨⟨q1, rfl, hq1⟩, P1', T1, F1⟩ := hp
      have K1 := PK.one hlp hl5 P1 P1' T1 F1
      have P2' := K1.1 _ _ _ P2
      obtain ⟨a2', o2', c2'⟩ := P2'.cell
      refine g_aload_n O dX10_compare_2_30 rfl (by first | rfl | exact rf_ref _) ?_
      refine g_callV O (n := 0) (c_X11_toString l E _ u2 hlp hl5 P2' (fun z => K1.2.1 _ (hu2 z))) rfl rfl c2' dX10_compare_2_31 q866 q867 q868 q79 q869 rfl (by decide +kernel) rfl rfl (by first | decide | omega) (by decide) (by first | exact Nat.le_of_ble_eq_true rfl | omega) (by first | exact Nat.le_of_ble_eq_true rfl | omega) (by first | exact Nat.le_of_ble_eq_true rfl | omega) (fun v h3 hp => ?_)
      obtain ⟨⟨q2, rfl, hq2⟩, P2'', T2, F2⟩ := hp
      have K2 := PK.one hlp hl5 P2' P2'' T2 F2
      have hq1' := hq1.exf F2 (by decide) c2' hlp
      obtain ⟨fsq, hcq⟩ := hq1'.cell
      refine g_callV O (n := 1) (c_J9_compareTo l E _ hq1' hq2 (Or.inl (by omega))) rfl rfl hcq dX10_compare_2_34 q874 q875 q876 q51 q877 rfl (by decide +kernel) rfl rfl (by first | decide | omega) (by decide) (by first | exact Nat.le_of_ble_eq_true rfl | omega) (by first | exact Nat.le_of_ble_eq_true rfl | omega) (by first | exact Nat.le_of_ble_eq_true rfl | omega) (fun v h4 hp => ?_)
      obtain ⟨⟨r, rfl, hr⟩, rfl⟩ := hp
      exact g_iret O dX10_compare_2_37 (by first | exact Nat.le_of_ble_eq_true rfl | omega) (by first | exact Nat.le_of_ble_eq_true rfl | omega) ⟨⟨r, rfl, by rw [hr]; unfold cmpP; rw [if_pos e2]⟩, K1.tr K2, fun _ => ⟨K2.2.1 _ T1, T2⟩⟩
    · exact absurd rfl hc
  · rw [e1]
    refine g_if_eq O 26 dX10_compare_2_9 (by decide) (fun hc => ?_) (fun hc => ?_)
    · exact absurd hc (by decide)
    · refine g_aload_n O dX10_compare_2_12 rfl (by first | rfl | exact rf_ref _) ?_
      refine g_get O 9 1 rfl c2 dX10_compare_2_13 q1366 rfl (by decide) rfl rfl ?_
      refine g_aload_n O dX10_compare_2_16 rfl (by first | rfl | exact rf_ref _) ?_
      refine g_get O 9 1 rfl c1 dX10_compare_2_17 q1366 rfl (by decide) rfl rfl ?_
      refine g_callS O (n := 2) (c_J24_compare l E h w2 w1 h2 h1) rfl dX10_compare_2_20 q863 q864 q70 q865 (by decide +kernel) rfl rfl (by first | decide | omega) (by decide) (by first | exact Nat.le_of_ble_eq_true rfl | omega) (by first | exact Nat.le_of_ble_eq_true rfl | omega) (by first | exact Nat.le_of_ble_eq_true rfl | omega) (fun v h1 hp => ?_)
      obtain ⟨rfl, rfl⟩ := hp
      refine g_goto O 37 dX10_compare_2_23 (by decide) ?_
      exact g_iret O dX10_compare_2_37 (by first | exact Nat.le_of_ble_eq_true rfl | omega) (by first | exact Nat.le_of_ble_eq_true rfl | omega) ⟨⟨_, rfl, by rw [if_pos e2]; unfold cmpP; rw [if_neg (by omega), if_pos e2]; decide⟩, PK.rf, fun z => absurd z (by omega)⟩
theorem c_X10_compare (l : Launch) (E : GE) (h : HV) {b lp x y w1 w2 lb : Nat} {t1 t2 : List Nat} {fs : List Value} (u1 u2 k : Nat) (hlp : lp ≠ 0) (hl5 : lp ≠ 51) (hb : h b = some (lb, .inr (8, fs))) (P1 : PT E h lp x t1 w1) (P2 : PT E h lp y t2 w2) (h1 : w1 < 2 ^ 63) (h2 : w2 < 2 ^ 63) (hu1 : u1 = 0 → txtd lp h x) (hu2 : u2 = 0 → txtd lp h y) (hk : w1 = w2 → u1 + u2 ≤ k) : Cg l E yX10_compare cX10_compare 3 (some .int) 8 (4 * k) (29 * k) [.ref b, .ref x, .ref y] h (fun v h' => (∃ r : Int32, v = some (.int r) ∧ r.toInt = cmpP w1 w2 t1 t2) ∧ PK E lp [51, lp] h h' ∧ (w1 = w2 → txtd lp h' x ∧ txtd lp h' y)) := by
  obtain ⟨a1, o1, c1⟩ := P1.cell
  obtain ⟨a2, o2, c2⟩ := P2.cell
  refine Cg.of (by first | exact plainFor_of_name (by decide) | decide +kernel) [some (.ref b), some (.ref x), some (.ref y)] (Nat.le_of_ble_eq_true rfl) rfl ?_
  intro p e s m args below meth c O
  refine g_aload_n O dX10_compare_0 rfl (by first | rfl | exact rf_ref _) ?_
  refine g_aload_n O dX10_compare_1 rfl (by first | rfl | exact rf_ref _) ?_
  refine g_castS O rfl c1 q858 dX10_compare_2 ?_
  refine g_aload_n O dX10_compare_5 rfl (by first | rfl | exact rf_ref _) ?_
  refine g_castS O rfl c2 q858 dX10_compare_6 ?_
  refine g_callV O (n := 2) (c_X10_compare_2 l E h u1 u2 k hlp hl5 hb P1 P2 h1 h2 hu1 hu2 hk) rfl rfl hb dX10_compare_9 q859 q860 q861 q78 q862 rfl (by decide +kernel) rfl rfl (by first | decide | omega) (by decide) (by first | exact Nat.le_of_ble_eq_true rfl | omega) (by first | exact Nat.le_of_ble_eq_true rfl | omega) (by first | exact Nat.le_of_ble_eq_true rfl | omega) (fun v h3 hp => ?_)
  obtain ⟨⟨r, rfl, hr⟩, k1, k2⟩ := hp
  exact g_iret O dX10_compare_12 (by first | exact Nat.le_of_ble_eq_true rfl | omega) (by first | exact Nat.le_of_ble_eq_true rfl | omega) ⟨⟨r, rfl, hr⟩, k1, k2⟩
