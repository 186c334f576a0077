set_option maxRecDepth 100000
/-! All: all paths, gone through one by one -/
/-- an All: its tags tsf, its sums sf, the kept paths best -/
def AP (E : GE) (h : HV) (x tr pl n : Nat) (tsf sf : Nat → Nat) (cap : Nat) (best : List (List Nat × Nat)) : Prop := ∃ (aT aB aS : Nat) (li : List Nat), h x = some (30, .inr (11, [.ref tr, .ref aT, .ref aB, .int (nI pl), .ref aS])) ∧ VX E h 31 aT n tsf ∧ AL E h 32 aB cap li ∧ li.length = best.length ∧ (∀ (i : Nat) (b : List Nat × Nat), best[i]? = some b → ∃ q, li[i]? = some q ∧ PT E h 33 q b.1 b.2) ∧ VL E h 34 aS sf
theorem AP.fr {E : GE} {h h' : HV} {x tr pl n cap : Nat} {tsf sf : Nat → Nat} {best : List (List Nat × Nat)} {S : List Nat} (F : Fr S h h') (h0 : 0 ∉ S) (h1 : 30 ∉ S) (h2 : 31 ∉ S) (h3 : 32 ∉ S) (h4 : 33 ∉ S) (h5 : 34 ∉ S) (A : AP E h x tr pl n tsf sf cap best) : AP E h' x tr pl n tsf sf cap best := by
  obtain ⟨aT, aB, aS, li, q1, q2, q3, q4, q5, q6⟩ := A
  exact ⟨aT, aB, aS, li, F _ _ q1 h1, q2.fr F h2, q3.fr F h3 h0, q4, fun i b e => (by obtain ⟨q, e1, e2⟩ := q5 i b e; exact ⟨q, e1, e2.fr F h0 h4⟩), q6.fr F h5⟩
theorem c_X12_init (l : Launch) (E : GE) (h : HV) {x tr pl n T : Nat} {wt sp : Nat → Nat → Nat} (hG : GC E h) (hx : h x = some (30, .inr (11, [.null, .null, .null, .int 0, .null]))) (hR : TR E h tr T n wt sp) (hn : n ≤ 5) : Cg l E yX12_init cX12_init 3 none 4 3 13 [.ref x, .ref tr, .int (nI pl)] h (fun v h' => v = none ∧ AP E h' x tr pl n (fun _ => 0) (fun _ => 0) 0 [] ∧ Fr [30] h h') := by
  obtain ⟨aW, aS0, r1, -⟩ := hR
  refine Cg.of (by first | exact plainFor_of_name (by decide) | decide +kernel) [some (.ref x), some (.ref tr), some (.int (nI pl))] (Nat.le_of_ble_eq_true rfl) rfl ?_
  intro p e s m args below meth c O
  refine g_aload_n O dX12_init_0 rfl (by first | rfl | exact rf_ref _) ?_
  refine g_objInit O rfl q1450 q87 q88 dX12_init_1 (by decide) (by first | exact Nat.le_of_ble_eq_true rfl | omega) ?_
  refine g_aload_n O dX12_init_4 rfl (by first | rfl | exact rf_ref _) ?_
  refine g_new O 32 5 [.int 0, .null, .int 0] rfl dX12_init_5 q1451 q148 q45 rfl (by first | exact Nat.le_of_ble_eq_true rfl | omega) (by first | exact Nat.le_of_ble_eq_true rfl | omega) (fun aB haB => ?_)
  refine Wg.abs (fun h1 e1 => ?_)
  have F1 : Fr [] h h1 := by rw [← e1]; exact Fr.rf.new haB
  have b1 : h1 aB = some (32, .inr (5, [.int 0, .null, .int 0])) := by rw [← e1]; exact hup_self
  clear e1
  refine g_dup O dX12_init_8 rfl ?_
  refine g_callI O (n := 0) (c_J4_init l E h1 (hG.fr F1 (by simp)) b1 (by decide)) rfl dX12_init_9 q1452 q150 q45 q151 rfl (by decide +kernel) rfl rfl (by first | decide | omega) (by decide) (by first | exact Nat.le_of_ble_eq_true rfl | omega) (by first | exact Nat.le_of_ble_eq_true rfl | omega) (by first | exact Nat.le_of_ble_eq_true rfl | omega) (fun v h1 hp => ?_)
  obtain ⟨rfl, rfl⟩ := hp
  refine Wg.abs (fun h2 e2 => ?_)
  have A2 : AL E h2 32 aB 0 [] := by rw [← e2]; exact AL.new ((hG.fr F1 (by simp)).fr (Fr.rf.up b1 (show 32 ∈ [32] by decide)) (by decide)) hup_self
  have F2 : Fr [32] h1 h2 := by rw [← e2]; exact Fr.rf.up b1 (by decide)
  have x2 := F2 _ _ (F1 _ _ hx (by simp)) (show 30 ∉ [32] by decide)
  have E2 : ∀ b c, h b = some c → h2 b = some c := fun b c e => by
    rw [← e2]
    exact (hup_ne (fun z => by rw [z, haB] at e; cases e)).trans (F1 _ _ e (by simp))
  clear e2
  refine g_putF O 11 2 rfl x2 (by decide) dX12_init_12 q1455 rfl (by decide) rfl rfl rfl rfl (by first | exact Nat.le_of_ble_eq_true rfl | omega) ?_
  refine Wg.abs (fun h3 e3 => ?_)
  have F3 : Fr [30] h2 h3 := by rw [← e3]; exact Fr.rf.up x2 (by decide)
  have x3 : h3 x = some (30, .inr (11, [.null, .null, .ref aB, .int 0, .null])) := by rw [← e3]; exact hup_self
  clear e3
  refine g_aload_n O dX12_init_15 rfl (by first | rfl | exact rf_ref _) ?_
  refine g_iconst O dX12_init_16 (nI 5) rfl ?_
  refine g_newa O 34 1 5 (5, .inr (.inl (fun _ => 0))) dX12_init_17 rfl rfl rfl (by decide) q1327 (by first | exact Nat.le_of_ble_eq_true rfl | omega) (by first | exact Nat.le_of_ble_eq_true rfl | omega) (fun aS haS => ?_)
  refine Wg.abs (fun h4 e4 => ?_)
  have F4 : Fr [] h3 h4 := by rw [← e4]; exact Fr.rf.new haS
  have V4 : VL E h4 34 aS (fun _ => 0) := by rw [← e4]; exact ⟨_, hup_self, fun j hj => rfl⟩
  clear e4
  refine g_putF O 11 4 rfl (F4 _ _ x3 (by simp)) (by decide) dX12_init_19 q1458 rfl (by decide) rfl rfl rfl rfl (by first | exact Nat.le_of_ble_eq_true rfl | omega) ?_
  refine g_aload_n O dX12_init_22 rfl (by first | rfl | exact rf_ref _) ?_
  refine g_aload_n O dX12_init_23 rfl (by first | rfl | exact rf_ref _) ?_
  refine g_putF O 11 0 rfl hup_self (by decide) dX12_init_24 q1453 rfl (by decide) rfl rfl rfl rfl (by first | exact Nat.le_of_ble_eq_true rfl | omega) ?_
  refine Wg.H _ hup_hup ?_
  refine g_aload_n O dX12_init_27 rfl (by first | rfl | exact rf_ref _) ?_
  refine g_iload_n O dX12_init_28 rfl ?_
  refine g_putF O 11 3 rfl hup_self (by decide) dX12_init_29 q1457 rfl (by decide) rfl rfl rfl rfl (by first | exact Nat.le_of_ble_eq_true rfl | omega) ?_
  refine Wg.H _ hup_hup ?_
  refine Wg.abs (fun h5 e5 => ?_)
  have F5 : Fr [30] h4 h5 := by rw [← e5]; exact Fr.rf.up (F4 _ _ x3 (by simp)) (by decide)
  have x5 : h5 x = some (30, .inr (11, [.ref tr, .null, .ref aB, .int (nI pl), .ref aS])) := by rw [← e5]; exact hup_self
  clear e5
  have r5 := F5 _ _ (F4 _ _ (F3 _ _ (E2 _ _ r1) (show 20 ∉ [30] by decide)) (by simp)) (show 20 ∉ [30] by decide)
  refine g_aload_n O dX12_init_32 rfl (by first | rfl | exact rf_ref _) ?_
  refine g_aload_n O dX12_init_33 rfl (by first | rfl | exact rf_ref _) ?_
  refine g_get O 10 0 rfl r5 dX12_init_34 q1288 rfl (by decide) rfl rfl ?_
  refine g_newa O 31 0 n (n, .inl (fun _ => 0)) dX12_init_37 rfl rfl rfl (by omega) q176 (by first | exact Nat.le_of_ble_eq_true rfl | omega) (by first | exact Nat.le_of_ble_eq_true rfl | omega) (fun aT haT => ?_)
  refine Wg.abs (fun h6 e6 => ?_)
  have F6 : Fr [] h5 h6 := by rw [← e6]; exact Fr.rf.new haT
  have V6 : VX E h6 31 aT n (fun _ => 0) := by rw [← e6]; exact ⟨_, hup_self, fun j hj => nI_0.symm⟩
  clear e6
  refine g_putF O 11 1 rfl (F6 _ _ x5 (by simp)) (by decide) dX12_init_39 q1454 rfl (by decide) rfl rfl rfl rfl (by first | exact Nat.le_of_ble_eq_true rfl | omega) ?_
  have F7 : Fr [30] h6 (hup h6 x (30, .inr (11, [.ref tr, .ref aT, .ref aB, .int (nI pl), .ref aS]))) := Fr.rf.up (F6 _ _ x5 (by simp)) (by decide)
  have G : Fr [30] h2 (hup h6 x (30, .inr (11, [.ref tr, .ref aT, .ref aB, .int (nI pl), .ref aS]))) := ((((F3.tr (F4.mono (fun x hx => by cases hx))).tr F5).tr (F6.mono (fun x hx => by cases hx))).tr F7)
  refine g_vret O dX12_init_42 (by omega) (by omega) ⟨rfl, ⟨aT, aB, aS, [], hup_self, V6.fr F7 (by decide), A2.fr G (by decide) (by decide), rfl, fun i b e => (by simp at e), ((V4.fr F5 (by decide)).fr F6 (by simp)).fr F7 (by decide)⟩, fun b c e hn => G _ _ (E2 _ _ e) hn⟩
/-- where a weight w stands among the kept ones -/
def posN (bs : List (List Nat × Nat)) (w : Nat) : Nat → Nat
  | 0 => 0
  | k + 1 => if (bs.getD k ([], 0)).2 < w then posN bs w k else k + 1
theorem posN_le {bs : List (List Nat × Nat)} {w : Nat} : ∀ k, posN bs w k ≤ k
  | 0 => Nat.le_refl _
  | k + 1 => by
    rw [posN]
    split
    · exact Nat.le_trans (posN_le k) (Nat.le_succ k)
    · exact Nat.le_refl _
/-- the kept ones, one more offered -/
def kp (bs : List (List Nat × Nat)) (x : List Nat × Nat) : List (List Nat × Nat) := if posN bs x.2 bs.length < 10 then (bs.take (posN bs x.2 bs.length) ++ x :: bs.drop (posN bs x.2 bs.length)).take 10 else bs
