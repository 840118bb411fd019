set_option maxRecDepth 100000
/-- a branch's versions pruned, the first n of all looked at -/
def tw_pr (w : Int → Int) (d b : Int) : Nat → Int → Int
  | 0 => w
  | n + 1 => if (tw_isOn (tw_pr w d b n) n d b && !tw_isNeeded (tw_pr w d b n) n) = true then zup (tw_pr w d b n) (261 + 9 * n + 8) 0 else tw_pr w d b n
def tw_prc (w : Int → Int) (d b : Int) : Nat → Int
  | 0 => 0
  | n + 1 => if (tw_isOn (tw_pr w d b n) n d b && !tw_isNeeded (tw_pr w d b n) n) = true then tw_prc w d b n + 1 else tw_prc w d b n
theorem tw_pr_k {w : Int → Int} {d b j : Int} : ∀ n : Nat, (∀ v : Int, 0 ≤ v → v < n → j ≠ 261 + 9 * v + 8) → tw_pr w d b n j = w j
  | 0, _ => rfl
  | n + 1, h => by
    unfold tw_pr
    split
    · rw [zup_n (h n (by omega) (by omega))]
      exact tw_pr_k n (fun v h1 h2 => h v h1 (by omega))
    · exact tw_pr_k n (fun v h1 h2 => h v h1 (by omega))
theorem tw_pr_shape {w : Int → Int} {d b : Int} (n : Nat) (hD : tD w) (hV : tV w) (hL : tL w) (hB : tB w) (hVd : tVd w) : tD (tw_pr w d b n) ∧ tV (tw_pr w d b n) ∧ tL (tw_pr w d b n) ∧ tB (tw_pr w d b n) ∧ tVd (tw_pr w d b n) := by
  have h2 : tw_pr w d b n 2 = w 2 := tw_pr_k n (by intros; omega)
  have h3 : tw_pr w d b n 3 = w 3 := tw_pr_k n (by intros; omega)
  have h4 : tw_pr w d b n 4 = w 4 := tw_pr_k n (by intros; omega)
  refine ⟨by unfold tD; rw [h2]; exact hD, by unfold tV; rw [h3]; exact hV, by unfold tL; rw [h4]; exact hL, fun e h5 h6 => ?_, fun v h5 h6 => ?_⟩
  · rw [h2] at h6
    rw [tw_pr_k n (by intros; omega)]
    exact hB e h5 h6
  · rw [h3] at h6
    rw [tw_pr_k n (by intros; omega), h2]
    exact hVd v h5 h6
def tC_prune (w : Int → Int) (a1 a2 a3 : Int) : Int := tw_ok3 ((tw_isPerson a1) && (tw_isBranch w a2 a3)) (((tw_isPerson a1) && (tw_isBranch w a2 a3)) && (tw_owns w a1 a2)) true
def tW_prune (w : Int → Int) (a1 a2 a3 : Int) : Int → Int := tw_pr w a2 a3 (w 3).toNat
def tA_prune (w : Int → Int) (a1 a2 a3 : Int) : Int := tw_prc w a2 a3 (w 3).toNat
theorem hn_X4_prune : yX4_prune.cls ≠ "java/lang/invoke/MethodHandle" ∧ yX4_prune.cls ≠ "java/lang/invoke/VarHandle" ∧ (parseMethodDescriptor yX4_prune.desc).map (fun d => d.parameters.length) = some 3 := by decide +kernel
theorem hd_X4_prune : yX4_prune.cls = "CheckoutDeskModel" ∧ yX4_prune.cls ≠ "java/lang/invoke/MethodHandle" ∧ yX4_prune.cls ≠ "java/lang/invoke/VarHandle" ∧ (parseMethodDescriptor yX4_prune.desc).map (fun d => d.parameters.length) = some 3 := ⟨rfl, hn_X4_prune⟩
abbrev rm_X4_prune : Room := { frames := 5, cells := 0, slots := 0, locals := 109 }
set_option maxHeartbeats 1000000 in
theorem tc_prune (l : Launch) {G : zG} {t : zTau} {w kp lg hr : Int → Int} {ev rd th : Int} {H0 : Heap} (hT : zT G t w kp lg hr ev rd th H0) {a1 a2 a3 : Int} (ha1 : inR a1) (ha2 : inR a2) (ha3 : inR a3) {n_ : Int} (hI : tInv n_ w) (hn_ : n_ < 2000) (hev2 : rd = 0 → ev < 2000) : zM l yX4_prune (ws_ yX4_prune cX4_prune 7 (some .int)) rm_X4_prune G (zTw t H0) [.ref t.1, .int (iI a1), .int (iI a2), .int (iI a3)] H0 (fun r H1 => r = some (.int (iI (kA (tC_prune w a1 a2 a3) (tA_prune w a1 a2 a3)))) ∧ zT G t (kW (tC_prune w a1 a2 a3) w (tW_prune w a1 a2 a3)) kp (kL rd (tC_prune w a1 a2 a3) ev lg 10 a1 a2 a3 0 0) (kH rd (tC_prune w a1 a2 a3) ev hr (tW_prune w a1 a2 a3 0)) (kE rd (tC_prune w a1 a2 a3) ev) rd (tC_prune w a1 a2 a3) H1) (fun _ => False) := by
  refine z_enter (by decide +kernel) (Nat.le_of_ble_eq_true rfl) ?_
  intro p e s m args below meth c ls hx hb hret hml hown hts hlocks htab hnm hK hH hl
  subst hH
  have hAn : ∀ q, s.heap.size ≤ q → zTw t s.heap q := fun _ h => Or.inr h
  have hTA : ∀ q, zTA t q → zTw t s.heap q := fun _ h => Or.inl h
  have hS : va_S (zTw t s.heap) s.heap s.heap [] := va_S.rf
  have hl : lv_has ls 7 [(0, .ref t.1), (1, .int (iI a1)), (2, .int (iI a2)), (3, .int (iI a3))] := hl
  have hrd := hT.2.2.2.2.2.2.2.2.2.2.2
  have hev := hT.2.2.2.2.2.2.2.2.2.2.1
  have hwR := hT.2.2.2.2.2.2.1
  obtain ⟨hD, hV, hL, hB, hVd, hLk, hClk, hDoc, hBr, hVer, hLnk, hNew, hFr⟩ := hI
  refine lv_iload_n hx hb dX4_prune_0 rfl (lv_at hl 1 rfl) ?_
  refine z_callp (vx_runS (As := [.int (iI a1)]) (rest := []) ⟨hx, hb, hml, hown, hts⟩ (tc_isPerson l (p_ := a1) (by first | with_reducible assumption | omega | exact ⟨by omega, by omega⟩ | omega)) (va_cwS 1 hts (lw_S q2392 q2393 q49 q2394) rfl rfl rfl hn_X4_isPerson ⟨Nat.le_of_ble_eq_true rfl, Nat.le_of_ble_eq_true rfl⟩) (z_preS hK hS (zN_le hAn hS)) rfl rfl hl.1 rfl (lv_room (Nat.le_of_ble_eq_true rfl)) dX4_prune_1 ⟨Nat.le_of_ble_eq_true rfl, Nat.le_of_ble_eq_true rfl⟩) hS (zN_le hAn hS) rfl rfl (fun locs hS => ?_)
  refine z_join (pc2 := 21) (nL := 7) (lv := [(0, .ref t.1), (1, .int (iI a1)), (2, .int (iI a2)), (3, .int (iI a3))]) (st2 := [.int (iI (bI ((tw_isPerson a1) && (tw_isBranch w a2 a3))))]) hS (fun J_1 => ?_) (fun locs ls hS hl => ?_)
  · refine z_ifb_eq (b := tw_isPerson a1) (tgt := 20) hx hb dX4_prune_4 (by decide) (fun c_2 => ?_) (fun c_2 => ?_)
    · refine lv_iconst (v := iI 0) hx hb dX4_prune_20 rfl ?_
      refine z_top (x := 0) (y := bI ((tw_isPerson a1) && (tw_isBranch w a2 a3))) (by simp [bI, c_2]) ?_
      exact J_1 _ ls hS (lv_sub hl [0, 1, 2, 3] rfl)
    · refine lv_aload_n hx hb dX4_prune_7 rfl (lv_at hl 0 rfl) ?_
      refine lv_iload_n hx hb dX4_prune_8 rfl (lv_at hl 2 rfl) ?_
      refine lv_iload_n hx hb dX4_prune_9 rfl (lv_at hl 3 rfl) ?_
      refine z_callp (vx_runV (As := [.int (iI a2), .int (iI a3)]) (rest := []) ⟨hx, hb, hml, hown, hts⟩ (tc_isBranch l hT (d := a2) (b := a3) (by first | with_reducible assumption | omega | exact ⟨by omega, by omega⟩ | omega) (by first | with_reducible assumption | omega | exact ⟨by omega, by omega⟩ | omega) (by first | with_reducible assumption | omega | exact ⟨by omega, by omega⟩ | omega) (by first | with_reducible assumption | omega | exact ⟨by omega, by omega⟩ | omega)) (cwV 2 hts (lw_V q2424 q2426 qs18 q49 q2427) rfl rfl rfl hd_X4_isBranch ⟨Nat.le_of_ble_eq_true rfl, Nat.le_of_ble_eq_true rfl⟩) (z_preV hK hS (zN_le hAn hS) hT.1 rfl rfl) rfl rfl hl.1 rfl (lv_room (Nat.le_of_ble_eq_true rfl)) dX4_prune_10 ⟨Nat.le_of_ble_eq_true rfl, Nat.le_of_ble_eq_true rfl⟩) hS (zN_le hAn hS) rfl rfl (fun locs hS => ?_)
      refine z_ifb_eq (b := tw_isBranch w a2 a3) (tgt := 20) hx hb dX4_prune_13 (by decide) (fun c_3 => ?_) (fun c_3 => ?_)
      · refine lv_iconst (v := iI 0) hx hb dX4_prune_20 rfl ?_
        refine z_top (x := 0) (y := bI ((tw_isPerson a1) && (tw_isBranch w a2 a3))) (by simp [bI, c_2, c_3]) ?_
        exact J_1 _ ls hS (lv_sub hl [0, 1, 2, 3] rfl)
      · refine lv_iconst (v := iI 1) hx hb dX4_prune_16 rfl ?_
        refine lv_goto (tgt := 21) hx hb dX4_prune_17 (by decide) ?_
        refine z_top (x := 1) (y := bI ((tw_isPerson a1) && (tw_isBranch w a2 a3))) (by simp [bI, c_2, c_3]) ?_
        exact J_1 _ ls hS (lv_sub hl [0, 1, 2, 3] rfl)
  · refine lv_istore (lv' := [(4, .int (iI (bI ((tw_isPerson a1) && (tw_isBranch w a2 a3))))), (0, .ref t.1), (1, .int (iI a1)), (2, .int (iI a2)), (3, .int (iI a3))]) hx hb dX4_prune_21 hl (by decide) rfl (fun ls hl => ?_)
    refine lv_aload_n hx hb dX4_prune_23 rfl (lv_at hl 1 rfl) ?_
    refine lv_iload hx hb dX4_prune_24 (lv_at hl 0 rfl) ?_
    refine lv_iload hx hb dX4_prune_26 (lv_at hl 0 rfl) ?_
    refine z_join (pc2 := 45) (nL := 7) (lv := [(4, .int (iI (bI ((tw_isPerson a1) && (tw_isBranch w a2 a3))))), (0, .ref t.1), (1, .int (iI a1)), (2, .int (iI a2)), (3, .int (iI a3))]) (st2 := [.int (iI (bI (((tw_isPerson a1) && (tw_isBranch w a2 a3)) && (tw_owns w a1 a2)))), .int (iI (bI ((tw_isPerson a1) && (tw_isBranch w a2 a3)))), .ref t.1]) hS (fun J_4 => ?_) (fun locs ls hS hl => ?_)
    · refine z_ifb_eq (b := (tw_isPerson a1) && (tw_isBranch w a2 a3)) (tgt := 44) hx hb dX4_prune_28 (by decide) (fun c_5 => ?_) (fun c_5 => ?_)
      · refine lv_iconst (v := iI 0) hx hb dX4_prune_44 rfl ?_
        refine z_top (x := 0) (y := bI (((tw_isPerson a1) && (tw_isBranch w a2 a3)) && (tw_owns w a1 a2))) (by simp [bI, c_5]) ?_
        exact J_4 _ ls hS (lv_sub hl [0, 1, 2, 3, 4] rfl)
      · obtain ⟨hp, hd, hbx⟩ := tw_are3 c_5
        have hb3 := hB _ hd.1 hd.2
        obtain ⟨hho, hgv, hcp, hog, hog2, hcv⟩ := hBr _ _ hd.1 hd.2 hbx.1 hbx.2
        have hgl : inR (w (5 + 32 * a2 + 8 + 8 * a3 + 2) + w 1 - w 0) := ⟨by omega, by omega⟩
        have hnw := hNew _ _ hd.1 hd.2 hbx.1 hbx.2
        have hnR := tw_newestOf_R (d := a2) (b := a3) hV
        obtain ⟨hvb, hvj, hvn, hvt, hvv⟩ := hVer _ hnw hnR.2
        have hdoc := hDoc _ hd.1 hd.2
        refine lv_aload_n hx hb dX4_prune_31 rfl (lv_at hl 1 rfl) ?_
        refine lv_iload_n hx hb dX4_prune_32 rfl (lv_at hl 2 rfl) ?_
        refine lv_iload_n hx hb dX4_prune_33 rfl (lv_at hl 3 rfl) ?_
        refine z_callp (vx_runV (As := [.int (iI a1), .int (iI a2)]) (rest := [.int (iI (bI ((tw_isPerson a1) && (tw_isBranch w a2 a3)))), .ref t.1]) ⟨hx, hb, hml, hown, hts⟩ (tc_owns l hT (p_ := a1) (d := a2) (by first | with_reducible assumption | omega | exact ⟨by omega, by omega⟩ | omega) (by first | with_reducible assumption | omega | exact ⟨by omega, by omega⟩ | omega)) (cwV 2 hts (lw_V q2416 q2418 qs17 q49 q2419) rfl rfl rfl hd_X4_owns ⟨Nat.le_of_ble_eq_true rfl, Nat.le_of_ble_eq_true rfl⟩) (z_preV hK hS (zN_le hAn hS) hT.1 rfl rfl) rfl rfl hl.1 rfl (lv_room (Nat.le_of_ble_eq_true rfl)) dX4_prune_34 ⟨Nat.le_of_ble_eq_true rfl, Nat.le_of_ble_eq_true rfl⟩) hS (zN_le hAn hS) rfl rfl (fun locs hS => ?_)
        refine z_ifb_eq (b := tw_owns w a1 a2) (tgt := 44) hx hb dX4_prune_37 (by decide) (fun c_6 => ?_) (fun c_6 => ?_)
        · refine lv_iconst (v := iI 0) hx hb dX4_prune_44 rfl ?_
          refine z_top (x := 0) (y := bI (((tw_isPerson a1) && (tw_isBranch w a2 a3)) && (tw_owns w a1 a2))) (by simp [bI, c_5, c_6]) ?_
          exact J_4 _ ls hS (lv_sub hl [0, 1, 2, 3, 4] rfl)
        · refine lv_iconst (v := iI 1) hx hb dX4_prune_40 rfl ?_
          refine lv_goto (tgt := 45) hx hb dX4_prune_41 (by decide) ?_
          refine z_top (x := 1) (y := bI (((tw_isPerson a1) && (tw_isBranch w a2 a3)) && (tw_owns w a1 a2))) (by simp [bI, c_5, c_6]) ?_
          exact J_4 _ ls hS (lv_sub hl [0, 1, 2, 3, 4] rfl)
    · refine z_callm (v := .int (iI (bI (((tw_isPerson a1) && (tw_isBranch w a2 a3)) && (((tw_isPerson a1) && (tw_isBranch w a2 a3)) && (tw_owns w a1 a2)))))) (P := (fun H1 => zT G t w kp lg hr ev rd (tw_ok3 ((tw_isPerson a1) && (tw_isBranch w a2 a3)) (((tw_isPerson a1) && (tw_isBranch w a2 a3)) && (tw_owns w a1 a2)) true) H1)) (vx_runV (As := [.int (iI (bI ((tw_isPerson a1) && (tw_isBranch w a2 a3)))), .int (iI (bI (((tw_isPerson a1) && (tw_isBranch w a2 a3)) && (tw_owns w a1 a2))))]) (rest := []) ⟨hx, hb, hml, hown, hts⟩ (tc_ok l hT (ba := (tw_isPerson a1) && (tw_isBranch w a2 a3)) (bb := ((tw_isPerson a1) && (tw_isBranch w a2 a3)) && (tw_owns w a1 a2))) (cwV 2 hts (lw_V q2368 q2370 qs11 q49 q2371) rfl rfl rfl hd_X4_ok ⟨Nat.le_of_ble_eq_true rfl, Nat.le_of_ble_eq_true rfl⟩) (z_preV hK hS (zTw_le hTA hAn hS) hT.1 rfl rfl) rfl rfl hl.1 rfl (lv_room (Nat.le_of_ble_eq_true rfl)) dX4_prune_45 ⟨Nat.le_of_ble_eq_true rfl, Nat.le_of_ble_eq_true rfl⟩) hS (zTw_le hTA hAn hS) rfl rfl (fun H locs hT hS => ?_)
      refine z_ifb_ne (b := ((tw_isPerson a1) && (tw_isBranch w a2 a3)) && (((tw_isPerson a1) && (tw_isBranch w a2 a3)) && (tw_owns w a1 a2))) (tgt := 53) hx hb dX4_prune_48 (by decide) (fun c_7 => ?_) (fun c_7 => ?_)
      · have hc := c_7
        obtain ⟨c_are, -⟩ := Bool.and_eq_true_iff.mp hc
        obtain ⟨hp, hd, hbx⟩ := tw_are3 c_are
        have hb3 := hB _ hd.1 hd.2
        obtain ⟨hho, hgv, hcp, hog, hog2, hcv⟩ := hBr _ _ hd.1 hd.2 hbx.1 hbx.2
        have hgl : inR (w (5 + 32 * a2 + 8 + 8 * a3 + 2) + w 1 - w 0) := ⟨by omega, by omega⟩
        have hnw := hNew _ _ hd.1 hd.2 hbx.1 hbx.2
        have hnR := tw_newestOf_R (d := a2) (b := a3) hV
        obtain ⟨hvb, hvj, hvn, hvt, hvv⟩ := hVer _ hnw hnR.2
        have hdoc := hDoc _ hd.1 hd.2
        simp only [Bool.and_eq_true, Bool.or_eq_true, decide_eq_true_eq, Bool.not_eq_eq_eq_not, Bool.not_true, decide_eq_false_iff_not, Bool.not_false] at hc
        refine lv_iconst (v := iI 0) hx hb dX4_prune_53 rfl ?_
        refine lv_istore (lv' := [(5, .int (iI 0)), (4, .int (iI (bI ((tw_isPerson a1) && (tw_isBranch w a2 a3))))), (0, .ref t.1), (1, .int (iI a1)), (2, .int (iI a2)), (3, .int (iI a3))]) hx hb dX4_prune_54 hl (by decide) rfl (fun ls hl => ?_)
        refine lv_iconst (v := iI 0) hx hb dX4_prune_56 rfl ?_
        refine lv_istore (lv' := [(6, .int (iI 0)), (5, .int (iI 0)), (4, .int (iI (bI ((tw_isPerson a1) && (tw_isBranch w a2 a3))))), (0, .ref t.1), (1, .int (iI a1)), (2, .int (iI a2)), (3, .int (iI a3))]) hx hb dX4_prune_57 hl (by decide) rfl (fun ls hl => ?_)
        refine z_loopH (A := zTw t s.heap) (H0 := s.heap) (nL := 7) (hd := 59) (fun i_8 : Nat => [(5, .int (iI (tw_prc w a2 a3 i_8))), (6, .int (iI ((i_8 : Nat) : Int))), (4, .int (iI (bI ((tw_isPerson a1) && (tw_isBranch w a2 a3))))), (0, .ref t.1), (1, .int (iI a1)), (2, .int (iI a2)), (3, .int (iI a3))]) (fun (i_8 : Nat) (H : Heap) => (i_8 : Int) ≤ w 3 ∧ zT G t (tw_pr w a2 a3 i_8) kp lg hr ev rd (tw_ok3 ((tw_isPerson a1) && (tw_isBranch w a2 a3)) (((tw_isPerson a1) && (tw_isBranch w a2 a3)) && (tw_owns w a1 a2)) true) H) (fun _ => 0) (fun _ => 0) (fun i_8 : Nat => (w 3 : Int).toNat - i_8) (fun i_8 H locs hi_8 hS ih_9 ls hl => ?_) 0 _ _ ?_ hS ls (z_lvren (lv_sub hl [1, 0, 2, 3, 4, 5, 6] rfl) (by rfl))
        · have hl : lv_has ls 7 [(5, .int (iI (tw_prc w a2 a3 i_8))), (6, .int (iI ((i_8 : Nat) : Int))), (4, .int (iI (bI ((tw_isPerson a1) && (tw_isBranch w a2 a3))))), (0, .ref t.1), (1, .int (iI a1)), (2, .int (iI a2)), (3, .int (iI a3))] := hl
          obtain ⟨hi_8, hT⟩ : (i_8 : Int) ≤ w 3 ∧ zT G t (tw_pr w a2 a3 i_8) kp lg hr ev rd (tw_ok3 ((tw_isPerson a1) && (tw_isBranch w a2 a3)) (((tw_isPerson a1) && (tw_isBranch w a2 a3)) && (tw_owns w a1 a2)) true) H := hi_8
          have hsh := tw_pr_shape (d := a2) (b := a3) i_8 hD hV hL hB hVd
          have h3i : tw_pr w a2 a3 i_8 3 = w 3 := tw_pr_k _ (by intros; omega)
          refine lv_iload hx hb dX4_prune_59 (lv_at hl 1 rfl) ?_
          refine lv_aload_n hx hb dX4_prune_61 rfl (lv_at hl 3 rfl) ?_
          refine z_get (k := 0) hx hb hts in_X4 hown hK hT.1 rfl (by decide) q2331 rfl (v := .ref t.2.1) rfl dX4_prune_62 ?_
          refine lv_iconst (v := iI 3) hx hb dX4_prune_65 rfl ?_
          refine z_ildZ (i := 3) (f := tw_pr w a2 a3 i_8) hx hb hK hT.2.1 ⟨by omega, by omega⟩ (by decide) dX4_prune_66 ?_
          refine z_top (x := (tw_pr w a2 a3 i_8) 3) (y := w 3) (tw_pr_k _ (by intros; omega)) ?_
          have r_10 : inR (w 3) := (by first | exact hwR _ | exact hT.2.2.2.2.2.2.1 3)
          refine z_icmp_ge (x := ((i_8 : Nat) : Int)) (y := w 3) (tgt := 113) hx hb (by first | with_reducible assumption | omega | exact ⟨by omega, by omega⟩) (by first | with_reducible assumption | omega | exact ⟨by omega, by omega⟩) dX4_prune_67 (by decide) (fun c_11 => ?_) (fun c_11 => ?_)
          · obtain rfl : i_8 = (w 3).toNat := by omega
            refine lv_aload_n hx hb dX4_prune_113 rfl (lv_at hl 3 rfl) ?_
            refine lv_bipush (v := iI 10) hx hb dX4_prune_114 (by decide) ?_
            refine lv_iload_n hx hb dX4_prune_116 rfl (lv_at hl 4 rfl) ?_
            refine lv_iload_n hx hb dX4_prune_117 rfl (lv_at hl 5 rfl) ?_
            refine lv_iload_n hx hb dX4_prune_118 rfl (lv_at hl 6 rfl) ?_
            refine lv_iconst (v := iI 0) hx hb dX4_prune_119 rfl ?_
            refine lv_iconst (v := iI 0) hx hb dX4_prune_120 rfl ?_
            refine z_callmv (P := (fun H1 => zT G t (tw_pr w a2 a3 (w 3).toNat) kp (kL rd 0 ev lg 10 a1 a2 a3 0 0) (kH rd 0 ev hr ((tw_pr w a2 a3 (w 3).toNat) 0)) (kE rd 0 ev) rd (tw_ok3 ((tw_isPerson a1) && (tw_isBranch w a2 a3)) (((tw_isPerson a1) && (tw_isBranch w a2 a3)) && (tw_owns w a1 a2)) true) H1)) (vx_runV (As := [.int (iI 10), .int (iI a1), .int (iI a2), .int (iI a3), .int (iI 0), .int (iI 0)]) (rest := []) ⟨hx, hb, hml, hown, hts⟩ (tc_keep l hT (k0 := 10) (a1 := a1) (a2 := a2) (a3 := a3) (a4 := 0) (a5 := 0) (by first | with_reducible assumption | omega | exact ⟨by omega, by omega⟩ | omega) (by first | with_reducible assumption | omega | exact ⟨by omega, by omega⟩ | omega) (by first | with_reducible assumption | omega | exact ⟨by omega, by omega⟩ | omega) (by first | with_reducible assumption | omega | exact ⟨by omega, by omega⟩ | omega) (by first | with_reducible assumption | omega | exact ⟨by omega, by omega⟩ | omega) (by first | with_reducible assumption | omega | exact ⟨by omega, by omega⟩ | omega) (by first | with_reducible assumption | omega | exact ⟨by omega, by omega⟩ | omega)) (cwV 6 hts (lw_V q2376 q2378 qs13 q49 q2379) rfl rfl rfl hd_X4_keep ⟨Nat.le_of_ble_eq_true rfl, Nat.le_of_ble_eq_true rfl⟩) (z_preV hK hS (zTw_le hTA hAn hS) hT.1 rfl rfl) rfl rfl hl.1 rfl (lv_room (Nat.le_of_ble_eq_true rfl)) dX4_prune_121 ⟨Nat.le_of_ble_eq_true rfl, Nat.le_of_ble_eq_true rfl⟩) hS (zTw_le hTA hAn hS) rfl rfl (fun H locs hT hS => ?_)
            refine lv_iload hx hb dX4_prune_124 (lv_at hl 0 rfl) ?_
            exact z_iret hx hb hret rfl hlocks hS (by have hc : tC_prune w a1 a2 a3 = 0 := (by unfold tC_prune; simp only [tw_ok3_0]; first | assumption | (simp_all; done)); exact z_okend hc rfl hT) (Nat.le_of_ble_eq_true rfl) (Nat.le_of_ble_eq_true rfl) dX4_prune_126
          · refine lv_aload_n hx hb dX4_prune_70 rfl (lv_at hl 3 rfl) ?_
            refine lv_iload hx hb dX4_prune_71 (lv_at hl 1 rfl) ?_
            refine lv_iload_n hx hb dX4_prune_73 rfl (lv_at hl 5 rfl) ?_
            refine lv_iload_n hx hb dX4_prune_74 rfl (lv_at hl 6 rfl) ?_
            refine z_callp (vx_runV (As := [.int (iI ((i_8 : Nat) : Int)), .int (iI a2), .int (iI a3)]) (rest := []) ⟨hx, hb, hml, hown, hts⟩ (tc_isOn l hT (v := ((i_8 : Nat) : Int)) (d := a2) (b := a3) (by first | with_reducible assumption | omega | exact ⟨by omega, by omega⟩ | omega) (by first | with_reducible assumption | omega | exact ⟨by omega, by omega⟩ | omega) (by first | with_reducible assumption | omega | exact ⟨by omega, by omega⟩ | omega)) (cwV 3 hts (lw_V q2445 q2447 qs23 q49 q2448) rfl rfl rfl hd_X4_isOn ⟨Nat.le_of_ble_eq_true rfl, Nat.le_of_ble_eq_true rfl⟩) (z_preV hK hS (zN_le hAn hS) hT.1 rfl rfl) rfl rfl hl.1 rfl (lv_room (Nat.le_of_ble_eq_true rfl)) dX4_prune_75 ⟨Nat.le_of_ble_eq_true rfl, Nat.le_of_ble_eq_true rfl⟩) hS (zN_le hAn hS) rfl rfl (fun locs hS => ?_)
            refine z_ifb_eq (b := tw_isOn (tw_pr w a2 a3 i_8) ((i_8 : Nat) : Int) a2 a3) (tgt := 107) hx hb dX4_prune_78 (by decide) (fun c_12 => ?_) (fun c_12 => ?_)
            · refine lv_iinc (v := iI (((i_8 : Nat) : Int) + 1)) (lv' := [(6, .int (iI (((i_8 : Nat) : Int) + 1))), (5, .int (iI (tw_prc w a2 a3 i_8))), (4, .int (iI (bI ((tw_isPerson a1) && (tw_isBranch w a2 a3))))), (0, .ref t.1), (1, .int (iI a1)), (2, .int (iI a2)), (3, .int (iI a3))]) hx hb dX4_prune_107 hl (k := 1) rfl (iI_add _ _) (by decide) rfl (fun ls hl => ?_)
              refine lv_goto (tgt := 59) hx hb dX4_prune_110 (by decide) ?_
              exact ih_9 (i_8 + 1) _ _ ⟨by omega, (by rw [show tw_pr w a2 a3 (i_8 + 1) = _ from by simp only [tw_pr]; rw [if_neg (by simp [c_11, c_12])]]; exact hT)⟩ hS (by omega) ls (z_lvren (lv_sub hl [1, 0, 2, 3, 4, 5, 6] rfl) (by rw [show tw_prc w a2 a3 (i_8 + 1) = _ from by simp only [tw_prc]; rw [if_neg (by simp [c_11, c_12])]] <;> rfl))
            · refine lv_aload_n hx hb dX4_prune_81 rfl (lv_at hl 3 rfl) ?_
              refine lv_iload hx hb dX4_prune_82 (lv_at hl 1 rfl) ?_
              refine z_callp (vx_runV (As := [.int (iI ((i_8 : Nat) : Int))]) (rest := []) ⟨hx, hb, hml, hown, hts⟩ (tc_isNeeded l hT (v := ((i_8 : Nat) : Int)) (by first | with_reducible assumption | omega | exact ⟨by omega, by omega⟩ | omega) hsh.1 hsh.2.1 hsh.2.2.1 hsh.2.2.2.1 hsh.2.2.2.2) (cwV 1 hts (lw_V q2493 q2495 qs29 q49 q2496) rfl rfl rfl hd_X4_isNeeded ⟨Nat.le_of_ble_eq_true rfl, Nat.le_of_ble_eq_true rfl⟩) (z_preV hK hS (zN_le hAn hS) hT.1 rfl rfl) rfl rfl hl.1 rfl (lv_room (Nat.le_of_ble_eq_true rfl)) dX4_prune_84 ⟨Nat.le_of_ble_eq_true rfl, Nat.le_of_ble_eq_true rfl⟩) hS (zN_le hAn hS) rfl rfl (fun locs hS => ?_)
              refine z_ifb_ne (b := tw_isNeeded (tw_pr w a2 a3 i_8) ((i_8 : Nat) : Int)) (tgt := 107) hx hb dX4_prune_87 (by decide) (fun c_13 => ?_) (fun c_13 => ?_)
              · refine lv_iinc (v := iI (((i_8 : Nat) : Int) + 1)) (lv' := [(6, .int (iI (((i_8 : Nat) : Int) + 1))), (5, .int (iI (tw_prc w a2 a3 i_8))), (4, .int (iI (bI ((tw_isPerson a1) && (tw_isBranch w a2 a3))))), (0, .ref t.1), (1, .int (iI a1)), (2, .int (iI a2)), (3, .int (iI a3))]) hx hb dX4_prune_107 hl (k := 1) rfl (iI_add _ _) (by decide) rfl (fun ls hl => ?_)
                refine lv_goto (tgt := 59) hx hb dX4_prune_110 (by decide) ?_
                exact ih_9 (i_8 + 1) _ _ ⟨by omega, (by rw [show tw_pr w a2 a3 (i_8 + 1) = _ from by simp only [tw_pr]; rw [if_neg (by simp [c_12, c_13])]]; exact hT)⟩ hS (by omega) ls (z_lvren (lv_sub hl [1, 0, 2, 3, 4, 5, 6] rfl) (by rw [show tw_prc w a2 a3 (i_8 + 1) = _ from by simp only [tw_prc]; rw [if_neg (by simp [c_12, c_13])]] <;> rfl))
              · refine lv_aload_n hx hb dX4_prune_90 rfl (lv_at hl 3 rfl) ?_
                refine z_get (k := 0) hx hb hts in_X4 hown hK hT.1 rfl (by decide) q2331 rfl (v := .ref t.2.1) rfl dX4_prune_91 ?_
                refine lv_iload hx hb dX4_prune_94 (lv_at hl 1 rfl) ?_
                refine z_callp (vx_runS (As := [.int (iI ((i_8 : Nat) : Int))]) (rest := [.ref t.2.1]) ⟨hx, hb, hml, hown, hts⟩ (tc_ver l (v := ((i_8 : Nat) : Int))) (va_cwS 1 hts (lw_S q2405 q2406 q49 q2407) rfl rfl rfl hn_X4_ver ⟨Nat.le_of_ble_eq_true rfl, Nat.le_of_ble_eq_true rfl⟩) (z_preS hK hS (zN_le hAn hS)) rfl rfl hl.1 rfl (lv_room (Nat.le_of_ble_eq_true rfl)) dX4_prune_96 ⟨Nat.le_of_ble_eq_true rfl, Nat.le_of_ble_eq_true rfl⟩) hS (zN_le hAn hS) rfl rfl (fun locs hS => ?_)
                refine lv_bipush (v := iI 8) hx hb dX4_prune_99 (by decide) ?_
                refine z_iadd (x := 261 + 9 * ((i_8 : Nat) : Int)) (y := 8) hx hb dX4_prune_101 ?_
                refine lv_iconst (v := iI 0) hx hb dX4_prune_102 rfl ?_
                refine zt_st (i := 261 + 9 * ((i_8 : Nat) : Int) + 8) (x := 0) hx hb hK hT hTA hS ⟨by omega, by omega⟩ (by decide) dX4_prune_103 (fun H locs hT hS => ?_)
                refine lv_iinc (v := iI (tw_prc w a2 a3 i_8 + 1)) (lv' := [(5, .int (iI (tw_prc w a2 a3 i_8 + 1))), (6, .int (iI ((i_8 : Nat) : Int))), (4, .int (iI (bI ((tw_isPerson a1) && (tw_isBranch w a2 a3))))), (0, .ref t.1), (1, .int (iI a1)), (2, .int (iI a2)), (3, .int (iI a3))]) hx hb dX4_prune_104 hl (k := 0) rfl (iI_add _ _) (by decide) rfl (fun ls hl => ?_)
                refine lv_iinc (v := iI (((i_8 : Nat) : Int) + 1)) (lv' := [(6, .int (iI (((i_8 : Nat) : Int) + 1))), (5, .int (iI (tw_prc w a2 a3 i_8 + 1))), (4, .int (iI (bI ((tw_isPerson a1) && (tw_isBranch w a2 a3))))), (0, .ref t.1), (1, .int (iI a1)), (2, .int (iI a2)), (3, .int (iI a3))]) hx hb dX4_prune_107 hl (k := 1) rfl (iI_add _ _) (by decide) rfl (fun ls hl => ?_)
                refine lv_goto (tgt := 59) hx hb dX4_prune_110 (by decide) ?_
                exact ih_9 (i_8 + 1) _ _ ⟨by omega, (by rw [show tw_pr w a2 a3 (i_8 + 1) = _ from by simp only [tw_pr]; rw [if_pos (by simp [c_12, c_13])]]; exact hT)⟩ hS (by omega) ls (z_lvren (lv_sub hl [1, 0, 2, 3, 4, 5, 6] rfl) (by rw [show tw_prc w a2 a3 (i_8 + 1) = _ from by simp only [tw_prc]; rw [if_pos (by simp [c_12, c_13])]] <;> rfl))
        · exact ⟨by omega, hT⟩
      · refine lv_iconst (v := iI 0) hx hb dX4_prune_51 rfl ?_
        exact z_iret hx hb hret rfl hlocks hS (by have hc : ¬ tC_prune w a1 a2 a3 = 0 := (by unfold tC_prune; simp only [tw_ok3_0]; first | (simp_all; done) | assumption); exact z_noend hc hT) (Nat.le_of_ble_eq_true rfl) (Nat.le_of_ble_eq_true rfl) dX4_prune_52
theorem tw_are2v {w : Int → Int} {p v : Int} (h : (tw_isPerson p && tw_isVersion w v) = true) : (0 ≤ p ∧ p ≤ 5) ∧ (0 ≤ v ∧ v < w 3) ∧ w (261 + 9 * v + 8) = 1 := by
  obtain ⟨h1, h2⟩ := Bool.and_eq_true_iff.mp h
  exact ⟨tw_isPerson_iff.mp h1, tw_isVersion_iff.mp h2⟩
def tw_bd (w : Int → Int) (a1 a2 : Int) : Int := if (tw_isPerson a1 && tw_isVersion w a2) = true then w (261 + 9 * a2) else 0
def tC_branchOff (w : Int → Int) (a1 a2 : Int) : Int := tw_ok3 ((tw_isPerson a1) && (tw_isVersion w a2)) ((((tw_isPerson a1) && (tw_isVersion w a2)) && ((decide (w (5 + 32 * tw_bd w a1 a2 + 1) < 3)) && (decide (w 3 < 60)))) && (tw_writes w a1 (tw_bd w a1 a2))) true
def tW_branchOff (w : Int → Int) (a1 a2 : Int) : Int → Int := tw_make (zup (zup w (5 + 32 * tw_bd w a1 a2 + 1) (w (5 + 32 * tw_bd w a1 a2 + 1) + 1)) (5 + 32 * tw_bd w a1 a2 + 8 + 8 * w (5 + 32 * tw_bd w a1 a2 + 1)) a2) (tw_bd w a1 a2) (w (5 + 32 * tw_bd w a1 a2 + 1)) 0 1 (261 + 9 * a2 + 4)
def tA_branchOff (w : Int → Int) (a1 a2 : Int) : Int := w (5 + 32 * tw_bd w a1 a2 + 1)
theorem hn_X4_branchOff : yX4_branchOff.cls ≠ "java/lang/invoke/MethodHandle" ∧ yX4_branchOff.cls ≠ "java/lang/invoke/VarHandle" ∧ (parseMethodDescriptor yX4_branchOff.desc).map (fun d => d.parameters.length) = some 2 := by decide +kernel
theorem hd_X4_branchOff : yX4_branchOff.cls = "CheckoutDeskModel" ∧ yX4_branchOff.cls ≠ "java/lang/invoke/MethodHandle" ∧ yX4_branchOff.cls ≠ "java/lang/invoke/VarHandle" ∧ (parseMethodDescriptor yX4_branchOff.desc).map (fun d => d.parameters.length) = some 2 := ⟨rfl, hn_X4_branchOff⟩
abbrev rm_X4_branchOff : Room := { frames := 4, cells := 0, slots := 0, locals := 80 }
set_option maxHeartbeats 1000000 in
theorem tc_branchOff (l : Launch) {G : zG} {t : zTau} {w kp lg hr : Int → Int} {ev rd th : Int} {H0 : Heap} (hT : zT G t w kp lg hr ev rd th H0) {a1 a2 : Int} (ha1 : inR a1) (ha2 : inR a2) {n_ : Int} (hI : tInv n_ w) (hn_ : n_ < 2000) (hev2 : rd = 0 → ev < 2000) : zM l yX4_branchOff (ws_ yX4_branchOff cX4_branchOff 8 (some .int)) rm_X4_branchOff G (zTw t H0) [.ref t.1, .int (iI a1), .int (iI a2)] H0 (fun r H1 => r = some (.int (iI (kA (tC_branchOff w a1 a2) (tA_branchOff w a1 a2)))) ∧ zT G t (kW (tC_branchOff w a1 a2) w (tW_branchOff w a1 a2)) kp (kL rd (tC_branchOff w a1 a2) ev lg 11 a1 a2 0 0 0) (kH rd (tC_branchOff w a1 a2) ev hr (tW_branchOff w a1 a2 0)) (kE rd (tC_branchOff w a1 a2) ev) rd (tC_branchOff w a1 a2) H1) (fun _ => False) := by
  refine z_enter (by decide +kernel) (Nat.le_of_ble_eq_true rfl) ?_
  intro p e s m args below meth c ls hx hb hret hml hown hts hlocks htab hnm hK hH hl
  subst hH
  have hAn : ∀ q, s.heap.size ≤ q → zTw t s.heap q := fun _ h => Or.inr h
  have hTA : ∀ q, zTA t q → zTw t s.heap q := fun _ h => Or.inl h
  have hS : va_S (zTw t s.heap) s.heap s.heap [] := va_S.rf
  have hl : lv_has ls 8 [(0, .ref t.1), (1, .int (iI a1)), (2, .int (iI a2))] := hl
  have hrd := hT.2.2.2.2.2.2.2.2.2.2.2
  have hev := hT.2.2.2.2.2.2.2.2.2.2.1
  have hwR := hT.2.2.2.2.2.2.1
  obtain ⟨hD, hV, hL, hB, hVd, hLk, hClk, hDoc, hBr, hVer, hLnk, hNew, hFr⟩ := hI
  refine lv_iload_n hx hb dX4_branchOff_0 rfl (lv_at hl 1 rfl) ?_
  refine z_callp (vx_runS (As := [.int (iI a1)]) (rest := []) ⟨hx, hb, hml, hown, hts⟩ (tc_isPerson l (p_ := a1) (by first | with_reducible assumption | omega | exact ⟨by omega, by omega⟩ | omega)) (va_cwS 1 hts (lw_S q2392 q2393 q49 q2394) rfl rfl rfl hn_X4_isPerson ⟨Nat.le_of_ble_eq_true rfl, Nat.le_of_ble_eq_true rfl⟩) (z_preS hK hS (zN_le hAn hS)) rfl rfl hl.1 rfl (lv_room (Nat.le_of_ble_eq_true rfl)) dX4_branchOff_1 ⟨Nat.le_of_ble_eq_true rfl, Nat.le_of_ble_eq_true rfl⟩) hS (zN_le hAn hS) rfl rfl (fun locs hS => ?_)
  refine z_join (pc2 := 20) (nL := 8) (lv := [(0, .ref t.1), (1, .int (iI a1)), (2, .int (iI a2))]) (st2 := [.int (iI (bI ((tw_isPerson a1) && (tw_isVersion w a2))))]) hS (fun J_1 => ?_) (fun locs ls hS hl => ?_)
  · refine z_ifb_eq (b := tw_isPerson a1) (tgt := 19) hx hb dX4_branchOff_4 (by decide) (fun c_2 => ?_) (fun c_2 => ?_)
    · refine lv_iconst (v := iI 0) hx hb dX4_branchOff_19 rfl ?_
      refine z_top (x := 0) (y := bI ((tw_isPerson a1) && (tw_isVersion w a2))) (by simp [bI, c_2]) ?_
      exact J_1 _ ls hS (lv_sub hl [0, 1, 2] rfl)
    · refine lv_aload_n hx hb dX4_branchOff_7 rfl (lv_at hl 0 rfl) ?_
      refine lv_iload_n hx hb dX4_branchOff_8 rfl (lv_at hl 2 rfl) ?_
      refine z_callp (vx_runV (As := [.int (iI a2)]) (rest := []) ⟨hx, hb, hml, hown, hts⟩ (tc_isVersion l hT (v := a2) (by first | with_reducible assumption | omega | exact ⟨by omega, by omega⟩ | omega) (by first | with_reducible assumption | omega | exact ⟨by omega, by omega⟩ | omega)) (cwV 1 hts (lw_V q2501 q2503 qs30 q49 q2504) rfl rfl rfl hd_X4_isVersion ⟨Nat.le_of_ble_eq_true rfl, Nat.le_of_ble_eq_true rfl⟩) (z_preV hK hS (zN_le hAn hS) hT.1 rfl rfl) rfl rfl hl.1 rfl (lv_room (Nat.le_of_ble_eq_true rfl)) dX4_branchOff_9 ⟨Nat.le_of_ble_eq_true rfl, Nat.le_of_ble_eq_true rfl⟩) hS (zN_le hAn hS) rfl rfl (fun locs hS => ?_)
      refine z_ifb_eq (b := tw_isVersion w a2) (tgt := 19) hx hb dX4_branchOff_12 (by decide) (fun c_3 => ?_) (fun c_3 => ?_)
      · refine lv_iconst (v := iI 0) hx hb dX4_branchOff_19 rfl ?_
        refine z_top (x := 0) (y := bI ((tw_isPerson a1) && (tw_isVersion w a2))) (by simp [bI, c_2, c_3]) ?_
        exact J_1 _ ls hS (lv_sub hl [0, 1, 2] rfl)
      · refine lv_iconst (v := iI 1) hx hb dX4_branchOff_15 rfl ?_
        refine lv_goto (tgt := 20) hx hb dX4_branchOff_16 (by decide) ?_
        refine z_top (x := 1) (y := bI ((tw_isPerson a1) && (tw_isVersion w a2))) (by simp [bI, c_2, c_3]) ?_
        exact J_1 _ ls hS (lv_sub hl [0, 1, 2] rfl)
  · refine lv_istore_n (lv' := [(3, .int (iI (bI ((tw_isPerson a1) && (tw_isVersion w a2))))), (0, .ref t.1), (1, .int (iI a1)), (2, .int (iI a2))]) hx hb dX4_branchOff_20 rfl hl (by decide) rfl (fun ls hl => ?_)
    refine lv_iload_n hx hb dX4_branchOff_21 rfl (lv_at hl 0 rfl) ?_
    refine z_join (pc2 := 40) (nL := 8) (lv := [(3, .int (iI (bI ((tw_isPerson a1) && (tw_isVersion w a2))))), (0, .ref t.1), (1, .int (iI a1)), (2, .int (iI a2))]) (st2 := [.int (iI (tw_bd w a1 a2))]) hS (fun J_4 => ?_) (fun locs ls hS hl => ?_)
    · refine z_ifb_eq (b := (tw_isPerson a1) && (tw_isVersion w a2)) (tgt := 39) hx hb dX4_branchOff_22 (by decide) (fun c_5 => ?_) (fun c_5 => ?_)
      · refine lv_iconst (v := iI 0) hx hb dX4_branchOff_39 rfl ?_
        refine z_top (x := 0) (y := tw_bd w a1 a2) (by simp [tw_bd, c_5]) ?_
        exact J_4 _ ls hS (lv_sub hl [0, 1, 2, 3] rfl)
      · obtain ⟨hp, hvx, hvt⟩ := tw_are2v c_5
        have hvd := hVd _ hvx.1 hvx.2
        refine lv_aload_n hx hb dX4_branchOff_25 rfl (lv_at hl 1 rfl) ?_
        refine z_get (k := 0) hx hb hts in_X4 hown hK hT.1 rfl (by decide) q2331 rfl (v := .ref t.2.1) rfl dX4_branchOff_26 ?_
        refine lv_iload_n hx hb dX4_branchOff_29 rfl (lv_at hl 3 rfl) ?_
        refine z_callp (vx_runS (As := [.int (iI a2)]) (rest := [.ref t.2.1]) ⟨hx, hb, hml, hown, hts⟩ (tc_ver l (v := a2)) (va_cwS 1 hts (lw_S q2405 q2406 q49 q2407) rfl rfl rfl hn_X4_ver ⟨Nat.le_of_ble_eq_true rfl, Nat.le_of_ble_eq_true rfl⟩) (z_preS hK hS (zN_le hAn hS)) rfl rfl hl.1 rfl (lv_room (Nat.le_of_ble_eq_true rfl)) dX4_branchOff_30 ⟨Nat.le_of_ble_eq_true rfl, Nat.le_of_ble_eq_true rfl⟩) hS (zN_le hAn hS) rfl rfl (fun locs hS => ?_)
        refine lv_iconst (v := iI 0) hx hb dX4_branchOff_33 rfl ?_
        refine z_iadd0 hx hb dX4_branchOff_34 ?_
        refine z_ildZ (i := 261 + 9 * a2) (f := w) hx hb hK hT.2.1 ⟨by omega, by omega⟩ (by decide) dX4_branchOff_35 ?_
        have r_6 : inR (w (261 + 9 * a2)) := hT.2.2.2.2.2.2.1 (261 + 9 * a2)
        refine lv_goto (tgt := 40) hx hb dX4_branchOff_36 (by decide) ?_
        refine z_top (x := w (261 + 9 * a2)) (y := tw_bd w a1 a2) (by simp [tw_bd, c_5]) ?_
        exact J_4 _ ls hS (lv_sub hl [0, 1, 2, 3] rfl)
    · refine lv_istore (lv' := [(4, .int (iI (tw_bd w a1 a2))), (3, .int (iI (bI ((tw_isPerson a1) && (tw_isVersion w a2))))), (0, .ref t.1), (1, .int (iI a1)), (2, .int (iI a2))]) hx hb dX4_branchOff_40 hl (by decide) rfl (fun ls hl => ?_)
      refine lv_iload_n hx hb dX4_branchOff_42 rfl (lv_at hl 1 rfl) ?_
      refine z_join (pc2 := 78) (nL := 8) (lv := [(4, .int (iI (tw_bd w a1 a2))), (3, .int (iI (bI ((tw_isPerson a1) && (tw_isVersion w a2))))), (0, .ref t.1), (1, .int (iI a1)), (2, .int (iI a2))]) (st2 := [.int (iI (bI (((tw_isPerson a1) && (tw_isVersion w a2)) && ((decide (w (5 + 32 * tw_bd w a1 a2 + 1) < 3)) && (decide (w 3 < 60))))))]) hS (fun J_7 => ?_) (fun locs ls hS hl => ?_)
      · refine z_ifb_eq (b := (tw_isPerson a1) && (tw_isVersion w a2)) (tgt := 77) hx hb dX4_branchOff_43 (by decide) (fun c_8 => ?_) (fun c_8 => ?_)
        · refine lv_iconst (v := iI 0) hx hb dX4_branchOff_77 rfl ?_
          refine z_top (x := 0) (y := bI (((tw_isPerson a1) && (tw_isVersion w a2)) && ((decide (w (5 + 32 * tw_bd w a1 a2 + 1) < 3)) && (decide (w 3 < 60))))) (by simp [bI, c_8]) ?_
          exact J_7 _ ls hS (lv_sub hl [0, 1, 2, 3, 4] rfl)
        · obtain ⟨hp, hvx, hvt⟩ := tw_are2v c_8
          have hvd := hVd _ hvx.1 hvx.2
          have hbd : tw_bd w a1 a2 = w (261 + 9 * a2) := if_pos c_8
          rw [← hbd] at hvd
          have hb3 := hB _ hvd.1 hvd.2
          refine lv_aload_n hx hb dX4_branchOff_46 rfl (lv_at hl 2 rfl) ?_
          refine z_get (k := 0) hx hb hts in_X4 hown hK hT.1 rfl (by decide) q2331 rfl (v := .ref t.2.1) rfl dX4_branchOff_47 ?_
          refine lv_iload hx hb dX4_branchOff_50 (lv_at hl 0 rfl) ?_
          refine z_callp (vx_runS (As := [.int (iI (tw_bd w a1 a2))]) (rest := [.ref t.2.1]) ⟨hx, hb, hml, hown, hts⟩ (tc_doc l (d := tw_bd w a1 a2)) (va_cwS 1 hts (lw_S q2395 q2396 q49 q2397) rfl rfl rfl hn_X4_doc ⟨Nat.le_of_ble_eq_true rfl, Nat.le_of_ble_eq_true rfl⟩) (z_preS hK hS (zN_le hAn hS)) rfl rfl hl.1 rfl (lv_room (Nat.le_of_ble_eq_true rfl)) dX4_branchOff_52 ⟨Nat.le_of_ble_eq_true rfl, Nat.le_of_ble_eq_true rfl⟩) hS (zN_le hAn hS) rfl rfl (fun locs hS => ?_)
          refine lv_iconst (v := iI 1) hx hb dX4_branchOff_55 rfl ?_
          refine z_iadd (x := 5 + 32 * tw_bd w a1 a2) (y := 1) hx hb dX4_branchOff_56 ?_
          refine z_ildZ (i := 5 + 32 * tw_bd w a1 a2 + 1) (f := w) hx hb hK hT.2.1 ⟨by omega, by omega⟩ (by decide) dX4_branchOff_57 ?_
          have r_9 : inR (w (5 + 32 * tw_bd w a1 a2 + 1)) := hT.2.2.2.2.2.2.1 (5 + 32 * tw_bd w a1 a2 + 1)
          refine lv_iconst (v := iI 3) hx hb dX4_branchOff_58 rfl ?_
          refine z_icmp_ge (x := w (5 + 32 * tw_bd w a1 a2 + 1)) (y := 3) (tgt := 77) hx hb (by first | with_reducible assumption | omega | exact ⟨by omega, by omega⟩) (by decide) dX4_branchOff_59 (by decide) (fun c_10 => ?_) (fun c_10 => ?_)
          · refine lv_iconst (v := iI 0) hx hb dX4_branchOff_77 rfl ?_
            refine z_top (x := 0) (y := bI (((tw_isPerson a1) && (tw_isVersion w a2)) && ((decide (w (5 + 32 * tw_bd w a1 a2 + 1) < 3)) && (decide (w 3 < 60))))) (by simp [bI, c_8, c_10]) ?_
            exact J_7 _ ls hS (lv_sub hl [0, 1, 2, 3, 4] rfl)
          · refine lv_aload_n hx hb dX4_branchOff_62 rfl (lv_at hl 2 rfl) ?_
            refine z_get (k := 0) hx hb hts in_X4 hown hK hT.1 rfl (by decide) q2331 rfl (v := .ref t.2.1) rfl dX4_branchOff_63 ?_
            refine lv_iconst (v := iI 3) hx hb dX4_branchOff_66 rfl ?_
            refine z_ildZ (i := 3) (f := w) hx hb hK hT.2.1 ⟨by omega, by omega⟩ (by decide) dX4_branchOff_67 ?_
            have r_11 : inR (w 3) := hT.2.2.2.2.2.2.1 3
            refine lv_bipush (v := iI 60) hx hb dX4_branchOff_68 (by decide) ?_
            refine z_icmp_ge (x := w 3) (y := 60) (tgt := 77) hx hb (by first | with_reducible assumption | omega | exact ⟨by omega, by omega⟩) (by decide) dX4_branchOff_70 (by decide) (fun c_12 => ?_) (fun c_12 => ?_)
            · refine lv_iconst (v := iI 0) hx hb dX4_branchOff_77 rfl ?_
              refine z_top (x := 0) (y := bI (((tw_isPerson a1) && (tw_isVersion w a2)) && ((decide (w (5 + 32 * tw_bd w a1 a2 + 1) < 3)) && (decide (w 3 < 60))))) (by simp [bI, c_8, c_10, c_12]) ?_
              exact J_7 _ ls hS (lv_sub hl [0, 1, 2, 3, 4] rfl)
            · refine lv_iconst (v := iI 1) hx hb dX4_branchOff_73 rfl ?_
              refine lv_goto (tgt := 78) hx hb dX4_branchOff_74 (by decide) ?_
              refine z_top (x := 1) (y := bI (((tw_isPerson a1) && (tw_isVersion w a2)) && ((decide (w (5 + 32 * tw_bd w a1 a2 + 1) < 3)) && (decide (w 3 < 60))))) (by simp [bI, c_8, c_10, c_12]) ?_
              exact J_7 _ ls hS (lv_sub hl [0, 1, 2, 3, 4] rfl)
      · refine lv_istore (lv' := [(5, .int (iI (bI (((tw_isPerson a1) && (tw_isVersion w a2)) && ((decide (w (5 + 32 * tw_bd w a1 a2 + 1) < 3)) && (decide (w 3 < 60))))))), (4, .int (iI (tw_bd w a1 a2))), (3, .int (iI (bI ((tw_isPerson a1) && (tw_isVersion w a2))))), (0, .ref t.1), (1, .int (iI a1)), (2, .int (iI a2))]) hx hb dX4_branchOff_78 hl (by decide) rfl (fun ls hl => ?_)
        refine lv_aload_n hx hb dX4_branchOff_80 rfl (lv_at hl 3 rfl) ?_
        refine lv_iload_n hx hb dX4_branchOff_81 rfl (lv_at hl 2 rfl) ?_
        refine lv_iload hx hb dX4_branchOff_82 (lv_at hl 0 rfl) ?_
        refine z_join (pc2 := 102) (nL := 8) (lv := [(5, .int (iI (bI (((tw_isPerson a1) && (tw_isVersion w a2)) && ((decide (w (5 + 32 * tw_bd w a1 a2 + 1) < 3)) && (decide (w 3 < 60))))))), (4, .int (iI (tw_bd w a1 a2))), (3, .int (iI (bI ((tw_isPerson a1) && (tw_isVersion w a2))))), (0, .ref t.1), (1, .int (iI a1)), (2, .int (iI a2))]) (st2 := [.int (iI (bI ((((tw_isPerson a1) && (tw_isVersion w a2)) && ((decide (w (5 + 32 * tw_bd w a1 a2 + 1) < 3)) && (decide (w 3 < 60)))) && (tw_writes w a1 (tw_bd w a1 a2))))), .int (iI (bI ((tw_isPerson a1) && (tw_isVersion w a2)))), .ref t.1]) hS (fun J_13 => ?_) (fun locs ls hS hl => ?_)
        · refine z_ifb_eq (b := ((tw_isPerson a1) && (tw_isVersion w a2)) && ((decide (w (5 + 32 * tw_bd w a1 a2 + 1) < 3)) && (decide (w 3 < 60)))) (tgt := 101) hx hb dX4_branchOff_84 (by decide) (fun c_14 => ?_) (fun c_14 => ?_)
          · refine lv_iconst (v := iI 0) hx hb dX4_branchOff_101 rfl ?_
            refine z_top (x := 0) (y := bI ((((tw_isPerson a1) && (tw_isVersion w a2)) && ((decide (w (5 + 32 * tw_bd w a1 a2 + 1) < 3)) && (decide (w 3 < 60)))) && (tw_writes w a1 (tw_bd w a1 a2)))) (by simp [bI, c_14]) ?_
            exact J_13 _ ls hS (lv_sub hl [0, 1, 2, 3, 4, 5] rfl)
          · have hc := c_14
            obtain ⟨c_are, -⟩ := Bool.and_eq_true_iff.mp hc
            obtain ⟨hp, hvx, hvt⟩ := tw_are2v c_are
            have hvd := hVd _ hvx.1 hvx.2
            have hbd : tw_bd w a1 a2 = w (261 + 9 * a2) := if_pos c_are
            rw [← hbd] at hvd
            have hb3 := hB _ hvd.1 hvd.2
            refine lv_aload_n hx hb dX4_branchOff_87 rfl (lv_at hl 3 rfl) ?_
            refine lv_iload_n hx hb dX4_branchOff_88 rfl (lv_at hl 4 rfl) ?_
            refine lv_iload hx hb dX4_branchOff_89 (lv_at hl 1 rfl) ?_
            refine z_callp (vx_runV (As := [.int (iI a1), .int (iI (tw_bd w a1 a2))]) (rest := [.int (iI (bI ((tw_isPerson a1) && (tw_isVersion w a2)))), .ref t.1]) ⟨hx, hb, hml, hown, hts⟩ (tc_writes l hT (p_ := a1) (d := tw_bd w a1 a2) (by first | with_reducible assumption | omega | exact ⟨by omega, by omega⟩ | omega) (by first | with_reducible assumption | omega | exact ⟨by omega, by omega⟩ | omega)) (cwV 2 hts (lw_V q2428 q2430 qs19 q49 q2431) rfl rfl rfl hd_X4_writes ⟨Nat.le_of_ble_eq_true rfl, Nat.le_of_ble_eq_true rfl⟩) (z_preV hK hS (zN_le hAn hS) hT.1 rfl rfl) rfl rfl hl.1 rfl (lv_room (Nat.le_of_ble_eq_true rfl)) dX4_branchOff_91 ⟨Nat.le_of_ble_eq_true rfl, Nat.le_of_ble_eq_true rfl⟩) hS (zN_le hAn hS) rfl rfl (fun locs hS => ?_)
            refine z_ifb_eq (b := tw_writes w a1 (tw_bd w a1 a2)) (tgt := 101) hx hb dX4_branchOff_94 (by decide) (fun c_15 => ?_) (fun c_15 => ?_)
            · refine lv_iconst (v := iI 0) hx hb dX4_branchOff_101 rfl ?_
              refine z_top (x := 0) (y := bI ((((tw_isPerson a1) && (tw_isVersion w a2)) && ((decide (w (5 + 32 * tw_bd w a1 a2 + 1) < 3)) && (decide (w 3 < 60)))) && (tw_writes w a1 (tw_bd w a1 a2)))) (by simp [bI, c_14, c_15]) ?_
              exact J_13 _ ls hS (lv_sub hl [0, 1, 2, 3, 4, 5] rfl)
            · refine lv_iconst (v := iI 1) hx hb dX4_branchOff_97 rfl ?_
              refine lv_goto (tgt := 102) hx hb dX4_branchOff_98 (by decide) ?_
              refine z_top (x := 1) (y := bI ((((tw_isPerson a1) && (tw_isVersion w a2)) && ((decide (w (5 + 32 * tw_bd w a1 a2 + 1) < 3)) && (decide (w 3 < 60)))) && (tw_writes w a1 (tw_bd w a1 a2)))) (by simp [bI, c_14, c_15]) ?_
              exact J_13 _ ls hS (lv_sub hl [0, 1, 2, 3, 4, 5] rfl)
        · refine z_callm (v := .int (iI (bI (((tw_isPerson a1) && (tw_isVersion w a2)) && ((((tw_isPerson a1) && (tw_isVersion w a2)) && ((decide (w (5 + 32 * tw_bd w a1 a2 + 1) < 3)) && (decide (w 3 < 60)))) && (tw_writes w a1 (tw_bd w a1 a2))))))) (P := (fun H1 => zT G t w kp lg hr ev rd (tw_ok3 ((tw_isPerson a1) && (tw_isVersion w a2)) ((((tw_isPerson a1) && (tw_isVersion w a2)) && ((decide (w (5 + 32 * tw_bd w a1 a2 + 1) < 3)) && (decide (w 3 < 60)))) && (tw_writes w a1 (tw_bd w a1 a2))) true) H1)) (vx_runV (As := [.int (iI (bI ((tw_isPerson a1) && (tw_isVersion w a2)))), .int (iI (bI ((((tw_isPerson a1) && (tw_isVersion w a2)) && ((decide (w (5 + 32 * tw_bd w a1 a2 + 1) < 3)) && (decide (w 3 < 60)))) && (tw_writes w a1 (tw_bd w a1 a2)))))]) (rest := []) ⟨hx, hb, hml, hown, hts⟩ (tc_ok l hT (ba := (tw_isPerson a1) && (tw_isVersion w a2)) (bb := (((tw_isPerson a1) && (tw_isVersion w a2)) && ((decide (w (5 + 32 * tw_bd w a1 a2 + 1) < 3)) && (decide (w 3 < 60)))) && (tw_writes w a1 (tw_bd w a1 a2)))) (cwV 2 hts (lw_V q2368 q2370 qs11 q49 q2371) rfl rfl rfl hd_X4_ok ⟨Nat.le_of_ble_eq_true rfl, Nat.le_of_ble_eq_true rfl⟩) (z_preV hK hS (zTw_le hTA hAn hS) hT.1 rfl rfl) rfl rfl hl.1 rfl (lv_room (Nat.le_of_ble_eq_true rfl)) dX4_branchOff_102 ⟨Nat.le_of_ble_eq_true rfl, Nat.le_of_ble_eq_true rfl⟩) hS (zTw_le hTA hAn hS) rfl rfl (fun H locs hT hS => ?_)
          refine z_ifb_ne (b := ((tw_isPerson a1) && (tw_isVersion w a2)) && ((((tw_isPerson a1) && (tw_isVersion w a2)) && ((decide (w (5 + 32 * tw_bd w a1 a2 + 1) < 3)) && (decide (w 3 < 60)))) && (tw_writes w a1 (tw_bd w a1 a2)))) (tgt := 110) hx hb dX4_branchOff_105 (by decide) (fun c_16 => ?_) (fun c_16 => ?_)
          · have hc := c_16
            obtain ⟨c_are, -⟩ := Bool.and_eq_true_iff.mp hc
            obtain ⟨hp, hvx, hvt⟩ := tw_are2v c_are
            have hvd := hVd _ hvx.1 hvx.2
            have hbd : tw_bd w a1 a2 = w (261 + 9 * a2) := if_pos c_are
            rw [← hbd] at hvd
            have hb3 := hB _ hvd.1 hvd.2
            simp only [Bool.and_eq_true, Bool.or_eq_true, decide_eq_true_eq, Bool.not_eq_eq_eq_not, Bool.not_true, decide_eq_false_iff_not, Bool.not_false] at hc
            refine lv_aload_n hx hb dX4_branchOff_110 rfl (lv_at hl 3 rfl) ?_
            refine z_get (k := 0) hx hb hts in_X4 hown hK hT.1 rfl (by decide) q2331 rfl (v := .ref t.2.1) rfl dX4_branchOff_111 ?_
            refine lv_iload hx hb dX4_branchOff_114 (lv_at hl 1 rfl) ?_
            refine z_callp (vx_runS (As := [.int (iI (tw_bd w a1 a2))]) (rest := [.ref t.2.1]) ⟨hx, hb, hml, hown, hts⟩ (tc_doc l (d := tw_bd w a1 a2)) (va_cwS 1 hts (lw_S q2395 q2396 q49 q2397) rfl rfl rfl hn_X4_doc ⟨Nat.le_of_ble_eq_true rfl, Nat.le_of_ble_eq_true rfl⟩) (z_preS hK hS (zN_le hAn hS)) rfl rfl hl.1 rfl (lv_room (Nat.le_of_ble_eq_true rfl)) dX4_branchOff_116 ⟨Nat.le_of_ble_eq_true rfl, Nat.le_of_ble_eq_true rfl⟩) hS (zN_le hAn hS) rfl rfl (fun locs hS => ?_)
            refine lv_iconst (v := iI 1) hx hb dX4_branchOff_119 rfl ?_
            refine z_iadd (x := 5 + 32 * tw_bd w a1 a2) (y := 1) hx hb dX4_branchOff_120 ?_
            refine z_ildZ (i := 5 + 32 * tw_bd w a1 a2 + 1) (f := w) hx hb hK hT.2.1 ⟨by omega, by omega⟩ (by decide) dX4_branchOff_121 ?_
            have r_17 : inR (w (5 + 32 * tw_bd w a1 a2 + 1)) := hT.2.2.2.2.2.2.1 (5 + 32 * tw_bd w a1 a2 + 1)
            refine lv_istore (lv' := [(6, .int (iI (w (5 + 32 * tw_bd w a1 a2 + 1)))), (5, .int (iI (bI (((tw_isPerson a1) && (tw_isVersion w a2)) && ((decide (w (5 + 32 * tw_bd w a1 a2 + 1) < 3)) && (decide (w 3 < 60))))))), (4, .int (iI (tw_bd w a1 a2))), (3, .int (iI (bI ((tw_isPerson a1) && (tw_isVersion w a2))))), (0, .ref t.1), (1, .int (iI a1)), (2, .int (iI a2))]) hx hb dX4_branchOff_122 hl (by decide) rfl (fun ls hl => ?_)
            refine lv_aload_n hx hb dX4_branchOff_124 rfl (lv_at hl 4 rfl) ?_
            refine z_get (k := 0) hx hb hts in_X4 hown hK hT.1 rfl (by decide) q2331 rfl (v := .ref t.2.1) rfl dX4_branchOff_125 ?_
            refine lv_iload hx hb dX4_branchOff_128 (lv_at hl 2 rfl) ?_
            refine z_callp (vx_runS (As := [.int (iI (tw_bd w a1 a2))]) (rest := [.ref t.2.1]) ⟨hx, hb, hml, hown, hts⟩ (tc_doc l (d := tw_bd w a1 a2)) (va_cwS 1 hts (lw_S q2395 q2396 q49 q2397) rfl rfl rfl hn_X4_doc ⟨Nat.le_of_ble_eq_true rfl, Nat.le_of_ble_eq_true rfl⟩) (z_preS hK hS (zN_le hAn hS)) rfl rfl hl.1 rfl (lv_room (Nat.le_of_ble_eq_true rfl)) dX4_branchOff_130 ⟨Nat.le_of_ble_eq_true rfl, Nat.le_of_ble_eq_true rfl⟩) hS (zN_le hAn hS) rfl rfl (fun locs hS => ?_)
            refine lv_iconst (v := iI 1) hx hb dX4_branchOff_133 rfl ?_
            refine z_iadd (x := 5 + 32 * tw_bd w a1 a2) (y := 1) hx hb dX4_branchOff_134 ?_
            refine lv_dup2_11 hx hb dX4_branchOff_135 rfl rfl ?_
            refine z_ildZ (i := 5 + 32 * tw_bd w a1 a2 + 1) (f := w) hx hb hK hT.2.1 ⟨by omega, by omega⟩ (by decide) dX4_branchOff_136 ?_
            have r_18 : inR (w (5 + 32 * tw_bd w a1 a2 + 1)) := hT.2.2.2.2.2.2.1 (5 + 32 * tw_bd w a1 a2 + 1)
            refine lv_iconst (v := iI 1) hx hb dX4_branchOff_137 rfl ?_
            refine z_iadd (x := w (5 + 32 * tw_bd w a1 a2 + 1)) (y := 1) hx hb dX4_branchOff_138 ?_
            refine zt_st (i := 5 + 32 * tw_bd w a1 a2 + 1) (x := w (5 + 32 * tw_bd w a1 a2 + 1) + 1) hx hb hK hT hTA hS ⟨by omega, by omega⟩ (by first | with_reducible assumption | omega | exact ⟨by omega, by omega⟩) dX4_branchOff_139 (fun H locs hT hS => ?_)
            refine lv_aload_n hx hb dX4_branchOff_140 rfl (lv_at hl 4 rfl) ?_
            refine z_get (k := 0) hx hb hts in_X4 hown hK hT.1 rfl (by decide) q2331 rfl (v := .ref t.2.1) rfl dX4_branchOff_141 ?_
            refine lv_iload hx hb dX4_branchOff_144 (lv_at hl 2 rfl) ?_
            refine lv_iload hx hb dX4_branchOff_146 (lv_at hl 0 rfl) ?_
            refine z_callp (vx_runS (As := [.int (iI (tw_bd w a1 a2)), .int (iI (w (5 + 32 * tw_bd w a1 a2 + 1)))]) (rest := [.ref t.2.1]) ⟨hx, hb, hml, hown, hts⟩ (tc_place l (d := tw_bd w a1 a2) (b := w (5 + 32 * tw_bd w a1 a2 + 1))) (va_cwS 2 hts (lw_S q2398 q2399 q49 q2400) rfl rfl rfl hn_X4_place ⟨Nat.le_of_ble_eq_true rfl, Nat.le_of_ble_eq_true rfl⟩) (z_preS hK hS (zN_le hAn hS)) rfl rfl hl.1 rfl (lv_room (Nat.le_of_ble_eq_true rfl)) dX4_branchOff_148 ⟨Nat.le_of_ble_eq_true rfl, Nat.le_of_ble_eq_true rfl⟩) hS (zN_le hAn hS) rfl rfl (fun locs hS => ?_)
            refine lv_iconst (v := iI 0) hx hb dX4_branchOff_151 rfl ?_
            refine z_iadd0 hx hb dX4_branchOff_152 ?_
            refine lv_iload_n hx hb dX4_branchOff_153 rfl (lv_at hl 6 rfl) ?_
            refine zt_st (i := 5 + 32 * tw_bd w a1 a2 + 8 + 8 * w (5 + 32 * tw_bd w a1 a2 + 1)) (x := a2) hx hb hK hT hTA hS ⟨by omega, by omega⟩ (by first | with_reducible assumption | omega | exact ⟨by omega, by omega⟩) dX4_branchOff_154 (fun H locs hT hS => ?_)
            refine lv_aload_n hx hb dX4_branchOff_155 rfl (lv_at hl 4 rfl) ?_
            refine lv_iload hx hb dX4_branchOff_156 (lv_at hl 2 rfl) ?_
            refine lv_iload hx hb dX4_branchOff_158 (lv_at hl 0 rfl) ?_
            refine lv_iconst (v := iI 0) hx hb dX4_branchOff_160 rfl ?_
            refine lv_iconst (v := iI 1) hx hb dX4_branchOff_161 rfl ?_
            refine lv_iload_n hx hb dX4_branchOff_162 rfl (lv_at hl 6 rfl) ?_
            refine z_callp (vx_runS (As := [.int (iI a2)]) (rest := [.int (iI 1), .int (iI 0), .int (iI (w (5 + 32 * tw_bd w a1 a2 + 1))), .int (iI (tw_bd w a1 a2)), .ref t.1]) ⟨hx, hb, hml, hown, hts⟩ (tc_ver l (v := a2)) (va_cwS 1 hts (lw_S q2405 q2406 q49 q2407) rfl rfl rfl hn_X4_ver ⟨Nat.le_of_ble_eq_true rfl, Nat.le_of_ble_eq_true rfl⟩) (z_preS hK hS (zN_le hAn hS)) rfl rfl hl.1 rfl (lv_room (Nat.le_of_ble_eq_true rfl)) dX4_branchOff_163 ⟨Nat.le_of_ble_eq_true rfl, Nat.le_of_ble_eq_true rfl⟩) hS (zN_le hAn hS) rfl rfl (fun locs hS => ?_)
            refine lv_iconst (v := iI 4) hx hb dX4_branchOff_166 rfl ?_
            refine z_iadd (x := 261 + 9 * a2) (y := 4) hx hb dX4_branchOff_167 ?_
            refine z_callm (v := .int (iI ((zup (zup w (5 + 32 * tw_bd w a1 a2 + 1) (w (5 + 32 * tw_bd w a1 a2 + 1) + 1)) (5 + 32 * tw_bd w a1 a2 + 8 + 8 * w (5 + 32 * tw_bd w a1 a2 + 1)) a2) 3))) (P := (fun H1 => zT G t (tw_make (zup (zup w (5 + 32 * tw_bd w a1 a2 + 1) (w (5 + 32 * tw_bd w a1 a2 + 1) + 1)) (5 + 32 * tw_bd w a1 a2 + 8 + 8 * w (5 + 32 * tw_bd w a1 a2 + 1)) a2) (tw_bd w a1 a2) (w (5 + 32 * tw_bd w a1 a2 + 1)) 0 1 (261 + 9 * a2 + 4)) kp lg hr ev rd (tw_ok3 ((tw_isPerson a1) && (tw_isVersion w a2)) ((((tw_isPerson a1) && (tw_isVersion w a2)) && ((decide (w (5 + 32 * tw_bd w a1 a2 + 1) < 3)) && (decide (w 3 < 60)))) && (tw_writes w a1 (tw_bd w a1 a2))) true) H1)) (vx_runV (As := [.int (iI (tw_bd w a1 a2)), .int (iI (w (5 + 32 * tw_bd w a1 a2 + 1))), .int (iI 0), .int (iI 1), .int (iI (261 + 9 * a2 + 4))]) (rest := []) ⟨hx, hb, hml, hown, hts⟩ (tc_make l hT (d := tw_bd w a1 a2) (b := w (5 + 32 * tw_bd w a1 a2 + 1)) (mj := 0) (mn := 1) (vals := 261 + 9 * a2 + 4) (by first | with_reducible assumption | omega | exact ⟨by omega, by omega⟩ | omega) (by first | with_reducible assumption | omega | exact ⟨by omega, by omega⟩ | omega) (by first | with_reducible assumption | omega | exact ⟨by omega, by omega⟩ | omega) (by first | with_reducible assumption | omega | exact ⟨by omega, by omega⟩ | omega) (by rw [zup_n (by omega), zup_n (by omega)]; omega) (by first | with_reducible assumption | omega | exact ⟨by omega, by omega⟩ | omega)) (cwV 5 hts (lw_V q2401 q2403 qs15 q49 q2404) rfl rfl rfl hd_X4_make ⟨Nat.le_of_ble_eq_true rfl, Nat.le_of_ble_eq_true rfl⟩) (z_preV hK hS (zTw_le hTA hAn hS) hT.1 rfl rfl) rfl rfl hl.1 rfl (lv_room (Nat.le_of_ble_eq_true rfl)) dX4_branchOff_168 ⟨Nat.le_of_ble_eq_true rfl, Nat.le_of_ble_eq_true rfl⟩) hS (zTw_le hTA hAn hS) rfl rfl (fun H locs hT hS => ?_)
            refine lv_istore (lv' := [(7, .int (iI ((zup (zup w (5 + 32 * tw_bd w a1 a2 + 1) (w (5 + 32 * tw_bd w a1 a2 + 1) + 1)) (5 + 32 * tw_bd w a1 a2 + 8 + 8 * w (5 + 32 * tw_bd w a1 a2 + 1)) a2) 3))), (6, .int (iI (w (5 + 32 * tw_bd w a1 a2 + 1)))), (5, .int (iI (bI (((tw_isPerson a1) && (tw_isVersion w a2)) && ((decide (w (5 + 32 * tw_bd w a1 a2 + 1) < 3)) && (decide (w 3 < 60))))))), (4, .int (iI (tw_bd w a1 a2))), (3, .int (iI (bI ((tw_isPerson a1) && (tw_isVersion w a2))))), (0, .ref t.1), (1, .int (iI a1)), (2, .int (iI a2))]) hx hb dX4_branchOff_171 hl (by decide) rfl (fun ls hl => ?_)
            refine lv_aload_n hx hb dX4_branchOff_173 rfl (lv_at hl 5 rfl) ?_
            refine lv_bipush (v := iI 11) hx hb dX4_branchOff_174 (by decide) ?_
            refine lv_iload_n hx hb dX4_branchOff_176 rfl (lv_at hl 6 rfl) ?_
            refine lv_iload_n hx hb dX4_branchOff_177 rfl (lv_at hl 7 rfl) ?_
            refine lv_iconst (v := iI 0) hx hb dX4_branchOff_178 rfl ?_
            refine lv_iconst (v := iI 0) hx hb dX4_branchOff_179 rfl ?_
            refine lv_iconst (v := iI 0) hx hb dX4_branchOff_180 rfl ?_
            refine z_callmv (P := (fun H1 => zT G t (tw_make (zup (zup w (5 + 32 * tw_bd w a1 a2 + 1) (w (5 + 32 * tw_bd w a1 a2 + 1) + 1)) (5 + 32 * tw_bd w a1 a2 + 8 + 8 * w (5 + 32 * tw_bd w a1 a2 + 1)) a2) (tw_bd w a1 a2) (w (5 + 32 * tw_bd w a1 a2 + 1)) 0 1 (261 + 9 * a2 + 4)) kp (kL rd 0 ev lg 11 a1 a2 0 0 0) (kH rd 0 ev hr ((tw_make (zup (zup w (5 + 32 * tw_bd w a1 a2 + 1) (w (5 + 32 * tw_bd w a1 a2 + 1) + 1)) (5 + 32 * tw_bd w a1 a2 + 8 + 8 * w (5 + 32 * tw_bd w a1 a2 + 1)) a2) (tw_bd w a1 a2) (w (5 + 32 * tw_bd w a1 a2 + 1)) 0 1 (261 + 9 * a2 + 4)) 0)) (kE rd 0 ev) rd (tw_ok3 ((tw_isPerson a1) && (tw_isVersion w a2)) ((((tw_isPerson a1) && (tw_isVersion w a2)) && ((decide (w (5 + 32 * tw_bd w a1 a2 + 1) < 3)) && (decide (w 3 < 60)))) && (tw_writes w a1 (tw_bd w a1 a2))) true) H1)) (vx_runV (As := [.int (iI 11), .int (iI a1), .int (iI a2), .int (iI 0), .int (iI 0), .int (iI 0)]) (rest := []) ⟨hx, hb, hml, hown, hts⟩ (tc_keep l hT (k0 := 11) (a1 := a1) (a2 := a2) (a3 := 0) (a4 := 0) (a5 := 0) (by first | with_reducible assumption | omega | exact ⟨by omega, by omega⟩ | omega) (by first | with_reducible assumption | omega | exact ⟨by omega, by omega⟩ | omega) (by first | with_reducible assumption | omega | exact ⟨by omega, by omega⟩ | omega) (by first | with_reducible assumption | omega | exact ⟨by omega, by omega⟩ | omega) (by first | with_reducible assumption | omega | exact ⟨by omega, by omega⟩ | omega) (by first | with_reducible assumption | omega | exact ⟨by omega, by omega⟩ | omega) (by first | with_reducible assumption | omega | exact ⟨by omega, by omega⟩ | omega)) (cwV 6 hts (lw_V q2376 q2378 qs13 q49 q2379) rfl rfl rfl hd_X4_keep ⟨Nat.le_of_ble_eq_true rfl, Nat.le_of_ble_eq_true rfl⟩) (z_preV hK hS (zTw_le hTA hAn hS) hT.1 rfl rfl) rfl rfl hl.1 rfl (lv_room (Nat.le_of_ble_eq_true rfl)) dX4_branchOff_181 ⟨Nat.le_of_ble_eq_true rfl, Nat.le_of_ble_eq_true rfl⟩) hS (zTw_le hTA hAn hS) rfl rfl (fun H locs hT hS => ?_)
            refine lv_iload hx hb dX4_branchOff_184 (lv_at hl 1 rfl) ?_
            exact z_iret hx hb hret rfl hlocks hS (by have hc : tC_branchOff w a1 a2 = 0 := (by unfold tC_branchOff; simp only [tw_ok3_0]; first | assumption | (simp_all; done)); exact z_okend hc rfl hT) (Nat.le_of_ble_eq_true rfl) (Nat.le_of_ble_eq_true rfl) dX4_branchOff_186
          · refine lv_iconst (v := iI 0) hx hb dX4_branchOff_108 rfl ?_
            exact z_iret hx hb hret rfl hlocks hS (by have hc : ¬ tC_branchOff w a1 a2 = 0 := (by unfold tC_branchOff; simp only [tw_ok3_0]; first | (simp_all; done) | assumption); exact z_noend hc hT) (Nat.le_of_ble_eq_true rfl) (Nat.le_of_ble_eq_true rfl) dX4_branchOff_109
def tw_mg (W w : Int → Int) (o mi th v : Int) : Nat → Int → Int
  | 0 => W
  | n + 1 => zup (tw_mg W w o mi th v n) (261 + 9 * v + 4 + n) (if w (261 + 9 * th + 4 + n) = w (261 + 9 * o + 4 + n) then w (261 + 9 * mi + 4 + n) else if w (261 + 9 * mi + 4 + n) = w (261 + 9 * o + 4 + n) then w (261 + 9 * th + 4 + n) else w (261 + 9 * mi + 4 + n))
theorem tw_mg_n {W w : Int → Int} {o mi th v j : Int} : ∀ n : Nat, (j < 261 + 9 * v + 4 ∨ 261 + 9 * v + 4 + n ≤ j) → tw_mg W w o mi th v n j = W j
  | 0, _ => rfl
  | n + 1, h => by
    unfold tw_mg
    rw [zup_n (by omega)]
    exact tw_mg_n n (by omega)
def tw_mgc (w : Int → Int) (o mi th : Int) : Nat → Int
  | 0 => 0
  | n + 1 => tw_mgc w o mi th n + bI (!(decide (w (261 + 9 * th + 4 + n) = w (261 + 9 * o + 4 + n))) && (!(decide (w (261 + 9 * mi + 4 + n) = w (261 + 9 * o + 4 + n))) && (!(decide (w (261 + 9 * th + 4 + n) = w (261 + 9 * mi + 4 + n))))))
def tC_merge (w : Int → Int) (a1 a2 a3 : Int) : Int := tw_ok3 ((tw_isPerson a1) && (tw_isBranch w a2 a3)) (!(decide (a3 = 0))) ((((tw_isPerson a1) && (tw_isBranch w a2 a3)) && ((decide (tw_holderOf w a2 0 = (-1))) && (decide (w 3 < 60)))) && (tw_writes w a1 a2))
def tW_merge (w : Int → Int) (a1 a2 a3 : Int) : Int → Int := zup (tw_mg (tw_make w a2 0 (w (261 + 9 * tw_newestOf w a2 0 + 2)) (w (261 + 9 * tw_newestOf w a2 0 + 3) + 1) (261 + 9 * tw_newestOf w a2 0 + 4)) w (w (5 + 32 * a2 + 8 + 8 * a3)) (tw_newestOf w a2 0) (tw_newestOf w a2 a3) (w 3) 3) (5 + 32 * a2 + 8 + 8 * a3) (tw_newestOf w a2 a3)
def tA_merge (w : Int → Int) (a1 a2 a3 : Int) : Int := tw_mgc w (w (5 + 32 * a2 + 8 + 8 * a3)) (tw_newestOf w a2 0) (tw_newestOf w a2 a3) 3
theorem hn_X4_merge : yX4_merge.cls ≠ "java/lang/invoke/MethodHandle" ∧ yX4_merge.cls ≠ "java/lang/invoke/VarHandle" ∧ (parseMethodDescriptor yX4_merge.desc).map (fun d => d.parameters.length) = some 3 := by decide +kernel
theorem hd_X4_merge : yX4_merge.cls = "CheckoutDeskModel" ∧ yX4_merge.cls ≠ "java/lang/invoke/MethodHandle" ∧ yX4_merge.cls ≠ "java/lang/invoke/VarHandle" ∧ (parseMethodDescriptor yX4_merge.desc).map (fun d => d.parameters.length) = some 3 := ⟨rfl, hn_X4_merge⟩
abbrev rm_X4_merge : Room := { frames := 4, cells := 0, slots := 0, locals := 84 }
set_option maxHeartbeats 1000000 in
theorem tc_merge (l : Launch) {G : zG} {t : zTau} {w kp lg hr : Int → Int} {ev rd th : Int} {H0 : Heap} (hT : zT G t w kp lg hr ev rd th H0) {a1 a2 a3 : Int} (ha1 : inR a1) (ha2 : inR a2) (ha3 : inR a3) {n_ : Int} (hI : tInv n_ w) (hn_ : n_ < 2000) (hev2 : rd = 0 → ev < 2000) : zM l yX4_merge (ws_ yX4_merge cX4_merge 15 (some .int)) rm_X4_merge G (zTw t H0) [.ref t.1, .int (iI a1), .int (iI a2), .int (iI a3)] H0 (fun r H1 => r = some (.int (iI (kA (tC_merge w a1 a2 a3) (tA_merge w a1 a2 a3)))) ∧ zT G t (kW (tC_merge w a1 a2 a3) w (tW_merge w a1 a2 a3)) kp (kL rd (tC_merge w a1 a2 a3) ev lg 12 a1 a2 a3 0 0) (kH rd (tC_merge w a1 a2 a3) ev hr (tW_merge w a1 a2 a3 0)) (kE rd (tC_merge w a1 a2 a3) ev) rd (tC_merge w a1 a2 a3) H1) (fun _ => False) := by
  refine z_enter (by decide +kernel) (Nat.le_of_ble_eq_true rfl) ?_
  intro p e s m args below meth c ls hx hb hret hml hown hts hlocks htab hnm hK hH hl
  subst hH
  have hAn : ∀ q, s.heap.size ≤ q → zTw t s.heap q := fun _ h => Or.inr h
  have hTA : ∀ q, zTA t q → zTw t s.heap q := fun _ h => Or.inl h
  have hS : va_S (zTw t s.heap) s.heap s.heap [] := va_S.rf
  have hl : lv_has ls 15 [(0, .ref t.1), (1, .int (iI a1)), (2, .int (iI a2)), (3, .int (iI a3))] := hl
  have hrd := hT.2.2.2.2.2.2.2.2.2.2.2
  have hev := hT.2.2.2.2.2.2.2.2.2.2.1
  have hwR := hT.2.2.2.2.2.2.1
  obtain ⟨hD, hV, hL, hB, hVd, hLk, hClk, hDoc, hBr, hVer, hLnk, hNew, hFr⟩ := hI
  refine lv_iload_n hx hb dX4_merge_0 rfl (lv_at hl 1 rfl) ?_
  refine z_callp (vx_runS (As := [.int (iI a1)]) (rest := []) ⟨hx, hb, hml, hown, hts⟩ (tc_isPerson l (p_ := a1) (by first | with_reducible assumption | omega | exact ⟨by omega, by omega⟩ | omega)) (va_cwS 1 hts (lw_S q2392 q2393 q49 q2394) rfl rfl rfl hn_X4_isPerson ⟨Nat.le_of_ble_eq_true rfl, Nat.le_of_ble_eq_true rfl⟩) (z_preS hK hS (zN_le hAn hS)) rfl rfl hl.1 rfl (lv_room (Nat.le_of_ble_eq_true rfl)) dX4_merge_1 ⟨Nat.le_of_ble_eq_true rfl, Nat.le_of_ble_eq_true rfl⟩) hS (zN_le hAn hS) rfl rfl (fun locs hS => ?_)
  refine z_join (pc2 := 21) (nL := 15) (lv := [(0, .ref t.1), (1, .int (iI a1)), (2, .int (iI a2)), (3, .int (iI a3))]) (st2 := [.int (iI (bI ((tw_isPerson a1) && (tw_isBranch w a2 a3))))]) hS (fun J_1 => ?_) (fun locs ls hS hl => ?_)
  · refine z_ifb_eq (b := tw_isPerson a1) (tgt := 20) hx hb dX4_merge_4 (by decide) (fun c_2 => ?_) (fun c_2 => ?_)
    · refine lv_iconst (v := iI 0) hx hb dX4_merge_20 rfl ?_
      refine z_top (x := 0) (y := bI ((tw_isPerson a1) && (tw_isBranch w a2 a3))) (by simp [bI, c_2]) ?_
      exact J_1 _ ls hS (lv_sub hl [0, 1, 2, 3] rfl)
    · refine lv_aload_n hx hb dX4_merge_7 rfl (lv_at hl 0 rfl) ?_
      refine lv_iload_n hx hb dX4_merge_8 rfl (lv_at hl 2 rfl) ?_
      refine lv_iload_n hx hb dX4_merge_9 rfl (lv_at hl 3 rfl) ?_
      refine z_callp (vx_runV (As := [.int (iI a2), .int (iI a3)]) (rest := []) ⟨hx, hb, hml, hown, hts⟩ (tc_isBranch l hT (d := a2) (b := a3) (by first | with_reducible assumption | omega | exact ⟨by omega, by omega⟩ | omega) (by first | with_reducible assumption | omega | exact ⟨by omega, by omega⟩ | omega) (by first | with_reducible assumption | omega | exact ⟨by omega, by omega⟩ | omega) (by first | with_reducible assumption | omega | exact ⟨by omega, by omega⟩ | omega)) (cwV 2 hts (lw_V q2424 q2426 qs18 q49 q2427) rfl rfl rfl hd_X4_isBranch ⟨Nat.le_of_ble_eq_true rfl, Nat.le_of_ble_eq_true rfl⟩) (z_preV hK hS (zN_le hAn hS) hT.1 rfl rfl) rfl rfl hl.1 rfl (lv_room (Nat.le_of_ble_eq_true rfl)) dX4_merge_10 ⟨Nat.le_of_ble_eq_true rfl, Nat.le_of_ble_eq_true rfl⟩) hS (zN_le hAn hS) rfl rfl (fun locs hS => ?_)
      refine z_ifb_eq (b := tw_isBranch w a2 a3) (tgt := 20) hx hb dX4_merge_13 (by decide) (fun c_3 => ?_) (fun c_3 => ?_)
      · refine lv_iconst (v := iI 0) hx hb dX4_merge_20 rfl ?_
        refine z_top (x := 0) (y := bI ((tw_isPerson a1) && (tw_isBranch w a2 a3))) (by simp [bI, c_2, c_3]) ?_
        exact J_1 _ ls hS (lv_sub hl [0, 1, 2, 3] rfl)
      · refine lv_iconst (v := iI 1) hx hb dX4_merge_16 rfl ?_
        refine lv_goto (tgt := 21) hx hb dX4_merge_17 (by decide) ?_
        refine z_top (x := 1) (y := bI ((tw_isPerson a1) && (tw_isBranch w a2 a3))) (by simp [bI, c_2, c_3]) ?_
        exact J_1 _ ls hS (lv_sub hl [0, 1, 2, 3] rfl)
  · refine lv_istore (lv' := [(4, .int (iI (bI ((tw_isPerson a1) && (tw_isBranch w a2 a3))))), (0, .ref t.1), (1, .int (iI a1)), (2, .int (iI a2)), (3, .int (iI a3))]) hx hb dX4_merge_21 hl (by decide) rfl (fun ls hl => ?_)
    refine lv_iload hx hb dX4_merge_23 (lv_at hl 0 rfl) ?_
    refine z_join (pc2 := 54) (nL := 15) (lv := [(4, .int (iI (bI ((tw_isPerson a1) && (tw_isBranch w a2 a3))))), (0, .ref t.1), (1, .int (iI a1)), (2, .int (iI a2)), (3, .int (iI a3))]) (st2 := [.int (iI (bI (((tw_isPerson a1) && (tw_isBranch w a2 a3)) && ((decide (tw_holderOf w a2 0 = (-1))) && (decide (w 3 < 60))))))]) hS (fun J_4 => ?_) (fun locs ls hS hl => ?_)
    · refine z_ifb_eq (b := (tw_isPerson a1) && (tw_isBranch w a2 a3)) (tgt := 53) hx hb dX4_merge_25 (by decide) (fun c_5 => ?_) (fun c_5 => ?_)
      · refine lv_iconst (v := iI 0) hx hb dX4_merge_53 rfl ?_
        refine z_top (x := 0) (y := bI (((tw_isPerson a1) && (tw_isBranch w a2 a3)) && ((decide (tw_holderOf w a2 0 = (-1))) && (decide (w 3 < 60))))) (by simp [bI, c_5]) ?_
        exact J_4 _ ls hS (lv_sub hl [0, 1, 2, 3, 4] rfl)
      · obtain ⟨hp, hd, hbx⟩ := tw_are3 c_5
        have hb3 := hB _ hd.1 hd.2
        obtain ⟨hho, hgv, hcp, hog, hog2, hcv⟩ := hBr _ _ hd.1 hd.2 hbx.1 hbx.2
        have hgl : inR (w (5 + 32 * a2 + 8 + 8 * a3 + 2) + w 1 - w 0) := ⟨by omega, by omega⟩
        have hnw := hNew _ _ hd.1 hd.2 hbx.1 hbx.2
        have hnR := tw_newestOf_R (d := a2) (b := a3) hV
        obtain ⟨hvb, hvj, hvn, hvt, hvv⟩ := hVer _ hnw hnR.2
        have hdoc := hDoc _ hd.1 hd.2
        obtain ⟨hho0, -⟩ := hBr _ 0 hd.1 hd.2 (by omega) (by omega)
        have hnw0 := hNew _ 0 hd.1 hd.2 (by omega) (by omega)
        have hnR0 := tw_newestOf_R (d := a2) (b := 0) hV
        obtain ⟨hvb0, hvj0, hvn0, hvt0, hvv0⟩ := hVer _ hnw0 hnR0.2
        refine lv_aload_n hx hb dX4_merge_28 rfl (lv_at hl 1 rfl) ?_
        refine lv_iload_n hx hb dX4_merge_29 rfl (lv_at hl 3 rfl) ?_
        refine lv_iconst (v := iI 0) hx hb dX4_merge_30 rfl ?_
        refine z_callp (vx_runV (As := [.int (iI a2), .int (iI 0)]) (rest := []) ⟨hx, hb, hml, hown, hts⟩ (tc_holderOf l hT (d := a2) (b := 0) (by first | with_reducible assumption | omega | exact ⟨by omega, by omega⟩ | omega) (by first | with_reducible assumption | omega | exact ⟨by omega, by omega⟩ | omega)) (cwV 2 hts (lw_V q2461 q2463 qs26 q49 q2464) rfl rfl rfl hd_X4_holderOf ⟨Nat.le_of_ble_eq_true rfl, Nat.le_of_ble_eq_true rfl⟩) (z_preV hK hS (zN_le hAn hS) hT.1 rfl rfl) rfl rfl hl.1 rfl (lv_room (Nat.le_of_ble_eq_true rfl)) dX4_merge_31 ⟨Nat.le_of_ble_eq_true rfl, Nat.le_of_ble_eq_true rfl⟩) hS (zN_le hAn hS) rfl rfl (fun locs hS => ?_)
        refine lv_iconst (v := iI (-1)) hx hb dX4_merge_34 rfl ?_
        refine z_icmp_ne (x := tw_holderOf w a2 0) (y := (-1)) (tgt := 53) hx hb (tw_holderOf_R hT.2.2.2.2.2.2.1 (by first | assumption | omega)) (by decide) dX4_merge_35 (by decide) (fun c_6 => ?_) (fun c_6 => ?_)
        · refine lv_iconst (v := iI 0) hx hb dX4_merge_53 rfl ?_
          refine z_top (x := 0) (y := bI (((tw_isPerson a1) && (tw_isBranch w a2 a3)) && ((decide (tw_holderOf w a2 0 = (-1))) && (decide (w 3 < 60))))) (by simp [bI, c_5, c_6]) ?_
          exact J_4 _ ls hS (lv_sub hl [0, 1, 2, 3, 4] rfl)
        · refine lv_aload_n hx hb dX4_merge_38 rfl (lv_at hl 1 rfl) ?_
          refine z_get (k := 0) hx hb hts in_X4 hown hK hT.1 rfl (by decide) q2331 rfl (v := .ref t.2.1) rfl dX4_merge_39 ?_
          refine lv_iconst (v := iI 3) hx hb dX4_merge_42 rfl ?_
          refine z_ildZ (i := 3) (f := w) hx hb hK hT.2.1 ⟨by omega, by omega⟩ (by decide) dX4_merge_43 ?_
          have r_7 : inR (w 3) := hT.2.2.2.2.2.2.1 3
          refine lv_bipush (v := iI 60) hx hb dX4_merge_44 (by decide) ?_
          refine z_icmp_ge (x := w 3) (y := 60) (tgt := 53) hx hb (by first | with_reducible assumption | omega | exact ⟨by omega, by omega⟩) (by decide) dX4_merge_46 (by decide) (fun c_8 => ?_) (fun c_8 => ?_)
          · refine lv_iconst (v := iI 0) hx hb dX4_merge_53 rfl ?_
            refine z_top (x := 0) (y := bI (((tw_isPerson a1) && (tw_isBranch w a2 a3)) && ((decide (tw_holderOf w a2 0 = (-1))) && (decide (w 3 < 60))))) (by simp [bI, c_5, c_6, c_8]) ?_
            exact J_4 _ ls hS (lv_sub hl [0, 1, 2, 3, 4] rfl)
          · refine lv_iconst (v := iI 1) hx hb dX4_merge_49 rfl ?_
            refine lv_goto (tgt := 54) hx hb dX4_merge_50 (by decide) ?_
            refine z_top (x := 1) (y := bI (((tw_isPerson a1) && (tw_isBranch w a2 a3)) && ((decide (tw_holderOf w a2 0 = (-1))) && (decide (w 3 < 60))))) (by simp [bI, c_5, c_6, c_8]) ?_
            exact J_4 _ ls hS (lv_sub hl [0, 1, 2, 3, 4] rfl)
    · refine lv_istore (lv' := [(5, .int (iI (bI (((tw_isPerson a1) && (tw_isBranch w a2 a3)) && ((decide (tw_holderOf w a2 0 = (-1))) && (decide (w 3 < 60))))))), (4, .int (iI (bI ((tw_isPerson a1) && (tw_isBranch w a2 a3))))), (0, .ref t.1), (1, .int (iI a1)), (2, .int (iI a2)), (3, .int (iI a3))]) hx hb dX4_merge_54 hl (by decide) rfl (fun ls hl => ?_)
      refine lv_aload_n hx hb dX4_merge_56 rfl (lv_at hl 2 rfl) ?_
      refine lv_iload hx hb dX4_merge_57 (lv_at hl 1 rfl) ?_
      refine lv_iload_n hx hb dX4_merge_59 rfl (lv_at hl 5 rfl) ?_
      refine z_join (pc2 := 68) (nL := 15) (lv := [(5, .int (iI (bI (((tw_isPerson a1) && (tw_isBranch w a2 a3)) && ((decide (tw_holderOf w a2 0 = (-1))) && (decide (w 3 < 60))))))), (4, .int (iI (bI ((tw_isPerson a1) && (tw_isBranch w a2 a3))))), (0, .ref t.1), (1, .int (iI a1)), (2, .int (iI a2)), (3, .int (iI a3))]) (st2 := [.int (iI (bI (!(decide (a3 = 0))))), .int (iI (bI ((tw_isPerson a1) && (tw_isBranch w a2 a3)))), .ref t.1]) hS (fun J_9 => ?_) (fun locs ls hS hl => ?_)
      · refine z_if_eq (x := a3) (tgt := 67) hx hb (by first | with_reducible assumption | omega | exact ⟨by omega, by omega⟩) dX4_merge_60 (by decide) (fun c_10 => ?_) (fun c_10 => ?_)
        · refine lv_iconst (v := iI 0) hx hb dX4_merge_67 rfl ?_
          refine z_top (x := 0) (y := bI (!(decide (a3 = 0)))) (by simp [bI, c_10]) ?_
          exact J_9 _ ls hS (lv_sub hl [0, 1, 2, 3, 4, 5] rfl)
        · refine lv_iconst (v := iI 1) hx hb dX4_merge_63 rfl ?_
          refine lv_goto (tgt := 68) hx hb dX4_merge_64 (by decide) ?_
          refine z_top (x := 1) (y := bI (!(decide (a3 = 0)))) (by simp [bI, c_10]) ?_
          exact J_9 _ ls hS (lv_sub hl [0, 1, 2, 3, 4, 5] rfl)
      · refine lv_iload hx hb dX4_merge_68 (lv_at hl 0 rfl) ?_
        refine z_join (pc2 := 87) (nL := 15) (lv := [(5, .int (iI (bI (((tw_isPerson a1) && (tw_isBranch w a2 a3)) && ((decide (tw_holderOf w a2 0 = (-1))) && (decide (w 3 < 60))))))), (4, .int (iI (bI ((tw_isPerson a1) && (tw_isBranch w a2 a3))))), (0, .ref t.1), (1, .int (iI a1)), (2, .int (iI a2)), (3, .int (iI a3))]) (st2 := [.int (iI (bI ((((tw_isPerson a1) && (tw_isBranch w a2 a3)) && ((decide (tw_holderOf w a2 0 = (-1))) && (decide (w 3 < 60)))) && (tw_writes w a1 a2)))), .int (iI (bI (!(decide (a3 = 0))))), .int (iI (bI ((tw_isPerson a1) && (tw_isBranch w a2 a3)))), .ref t.1]) hS (fun J_11 => ?_) (fun locs ls hS hl => ?_)
        · refine z_ifb_eq (b := ((tw_isPerson a1) && (tw_isBranch w a2 a3)) && ((decide (tw_holderOf w a2 0 = (-1))) && (decide (w 3 < 60)))) (tgt := 86) hx hb dX4_merge_70 (by decide) (fun c_12 => ?_) (fun c_12 => ?_)
          · refine lv_iconst (v := iI 0) hx hb dX4_merge_86 rfl ?_
            refine z_top (x := 0) (y := bI ((((tw_isPerson a1) && (tw_isBranch w a2 a3)) && ((decide (tw_holderOf w a2 0 = (-1))) && (decide (w 3 < 60)))) && (tw_writes w a1 a2))) (by simp [bI, c_12]) ?_
            exact J_11 _ ls hS (lv_sub hl [0, 1, 2, 3, 4, 5] rfl)
          · have hc := c_12
            obtain ⟨c_are, -⟩ := Bool.and_eq_true_iff.mp hc
            obtain ⟨hp, hd, hbx⟩ := tw_are3 c_are
            have hb3 := hB _ hd.1 hd.2
            obtain ⟨hho, hgv, hcp, hog, hog2, hcv⟩ := hBr _ _ hd.1 hd.2 hbx.1 hbx.2
            have hgl : inR (w (5 + 32 * a2 + 8 + 8 * a3 + 2) + w 1 - w 0) := ⟨by omega, by omega⟩
            have hnw := hNew _ _ hd.1 hd.2 hbx.1 hbx.2
            have hnR := tw_newestOf_R (d := a2) (b := a3) hV
            obtain ⟨hvb, hvj, hvn, hvt, hvv⟩ := hVer _ hnw hnR.2
            have hdoc := hDoc _ hd.1 hd.2
            refine lv_aload_n hx hb dX4_merge_73 rfl (lv_at hl 2 rfl) ?_
            refine lv_iload_n hx hb dX4_merge_74 rfl (lv_at hl 3 rfl) ?_
            refine lv_iload_n hx hb dX4_merge_75 rfl (lv_at hl 4 rfl) ?_
            refine z_callp (vx_runV (As := [.int (iI a1), .int (iI a2)]) (rest := [.int (iI (bI (!(decide (a3 = 0))))), .int (iI (bI ((tw_isPerson a1) && (tw_isBranch w a2 a3)))), .ref t.1]) ⟨hx, hb, hml, hown, hts⟩ (tc_writes l hT (p_ := a1) (d := a2) (by first | with_reducible assumption | omega | exact ⟨by omega, by omega⟩ | omega) (by first | with_reducible assumption | omega | exact ⟨by omega, by omega⟩ | omega)) (cwV 2 hts (lw_V q2428 q2430 qs19 q49 q2431) rfl rfl rfl hd_X4_writes ⟨Nat.le_of_ble_eq_true rfl, Nat.le_of_ble_eq_true rfl⟩) (z_preV hK hS (zN_le hAn hS) hT.1 rfl rfl) rfl rfl hl.1 rfl (lv_room (Nat.le_of_ble_eq_true rfl)) dX4_merge_76 ⟨Nat.le_of_ble_eq_true rfl, Nat.le_of_ble_eq_true rfl⟩) hS (zN_le hAn hS) rfl rfl (fun locs hS => ?_)
            refine z_ifb_eq (b := tw_writes w a1 a2) (tgt := 86) hx hb dX4_merge_79 (by decide) (fun c_13 => ?_) (fun c_13 => ?_)
            · refine lv_iconst (v := iI 0) hx hb dX4_merge_86 rfl ?_
              refine z_top (x := 0) (y := bI ((((tw_isPerson a1) && (tw_isBranch w a2 a3)) && ((decide (tw_holderOf w a2 0 = (-1))) && (decide (w 3 < 60)))) && (tw_writes w a1 a2))) (by simp [bI, c_12, c_13]) ?_
              exact J_11 _ ls hS (lv_sub hl [0, 1, 2, 3, 4, 5] rfl)
            · refine lv_iconst (v := iI 1) hx hb dX4_merge_82 rfl ?_
              refine lv_goto (tgt := 87) hx hb dX4_merge_83 (by decide) ?_
              refine z_top (x := 1) (y := bI ((((tw_isPerson a1) && (tw_isBranch w a2 a3)) && ((decide (tw_holderOf w a2 0 = (-1))) && (decide (w 3 < 60)))) && (tw_writes w a1 a2))) (by simp [bI, c_12, c_13]) ?_
              exact J_11 _ ls hS (lv_sub hl [0, 1, 2, 3, 4, 5] rfl)
        · refine z_callm (v := .int (iI (bI (((tw_isPerson a1) && (tw_isBranch w a2 a3)) && ((!(decide (a3 = 0))) && ((((tw_isPerson a1) && (tw_isBranch w a2 a3)) && ((decide (tw_holderOf w a2 0 = (-1))) && (decide (w 3 < 60)))) && (tw_writes w a1 a2))))))) (P := (fun H1 => zT G t w kp lg hr ev rd (tw_ok3 ((tw_isPerson a1) && (tw_isBranch w a2 a3)) (!(decide (a3 = 0))) ((((tw_isPerson a1) && (tw_isBranch w a2 a3)) && ((decide (tw_holderOf w a2 0 = (-1))) && (decide (w 3 < 60)))) && (tw_writes w a1 a2))) H1)) (vx_runV (As := [.int (iI (bI ((tw_isPerson a1) && (tw_isBranch w a2 a3)))), .int (iI (bI (!(decide (a3 = 0))))), .int (iI (bI ((((tw_isPerson a1) && (tw_isBranch w a2 a3)) && ((decide (tw_holderOf w a2 0 = (-1))) && (decide (w 3 < 60)))) && (tw_writes w a1 a2))))]) (rest := []) ⟨hx, hb, hml, hown, hts⟩ (tc_ok_2 l hT (ba := (tw_isPerson a1) && (tw_isBranch w a2 a3)) (bb := !(decide (a3 = 0))) (bc := (((tw_isPerson a1) && (tw_isBranch w a2 a3)) && ((decide (tw_holderOf w a2 0 = (-1))) && (decide (w 3 < 60)))) && (tw_writes w a1 a2))) (cwV 3 hts (lw_V q2372 q2374 qs12 q49 q2375) rfl rfl rfl hd_X4_ok_2 ⟨Nat.le_of_ble_eq_true rfl, Nat.le_of_ble_eq_true rfl⟩) (z_preV hK hS (zTw_le hTA hAn hS) hT.1 rfl rfl) rfl rfl hl.1 rfl (lv_room (Nat.le_of_ble_eq_true rfl)) dX4_merge_87 ⟨Nat.le_of_ble_eq_true rfl, Nat.le_of_ble_eq_true rfl⟩) hS (zTw_le hTA hAn hS) rfl rfl (fun H locs hT hS => ?_)
          refine z_ifb_ne (b := ((tw_isPerson a1) && (tw_isBranch w a2 a3)) && ((!(decide (a3 = 0))) && ((((tw_isPerson a1) && (tw_isBranch w a2 a3)) && ((decide (tw_holderOf w a2 0 = (-1))) && (decide (w 3 < 60)))) && (tw_writes w a1 a2)))) (tgt := 95) hx hb dX4_merge_90 (by decide) (fun c_14 => ?_) (fun c_14 => ?_)
          · have hc := c_14
            obtain ⟨c_are, -⟩ := Bool.and_eq_true_iff.mp hc
            obtain ⟨hp, hd, hbx⟩ := tw_are3 c_are
            have hb3 := hB _ hd.1 hd.2
            obtain ⟨hho, hgv, hcp, hog, hog2, hcv⟩ := hBr _ _ hd.1 hd.2 hbx.1 hbx.2
            have hgl : inR (w (5 + 32 * a2 + 8 + 8 * a3 + 2) + w 1 - w 0) := ⟨by omega, by omega⟩
            have hnw := hNew _ _ hd.1 hd.2 hbx.1 hbx.2
            have hnR := tw_newestOf_R (d := a2) (b := a3) hV
            obtain ⟨hvb, hvj, hvn, hvt, hvv⟩ := hVer _ hnw hnR.2
            have hdoc := hDoc _ hd.1 hd.2
            simp only [Bool.and_eq_true, Bool.or_eq_true, decide_eq_true_eq, Bool.not_eq_eq_eq_not, Bool.not_true, decide_eq_false_iff_not, Bool.not_false] at hc
            obtain ⟨hho0, -⟩ := hBr _ 0 hd.1 hd.2 (by omega) (by omega)
            have hnw0 := hNew _ 0 hd.1 hd.2 (by omega) (by omega)
            have hnR0 := tw_newestOf_R (d := a2) (b := 0) hV
            obtain ⟨hvb0, hvj0, hvn0, hvt0, hvv0⟩ := hVer _ hnw0 hnR0.2
            have hog3 := hog2 (by omega)
            refine lv_aload_n hx hb dX4_merge_95 rfl (lv_at hl 2 rfl) ?_
            refine lv_iload_n hx hb dX4_merge_96 rfl (lv_at hl 4 rfl) ?_
            refine lv_iload_n hx hb dX4_merge_97 rfl (lv_at hl 5 rfl) ?_
            refine z_callp (vx_runV (As := [.int (iI a2), .int (iI a3)]) (rest := []) ⟨hx, hb, hml, hown, hts⟩ (tc_newestOf l hT (d := a2) (b := a3) (by first | with_reducible assumption | omega | exact ⟨by omega, by omega⟩ | omega) (by first | with_reducible assumption | omega | exact ⟨by omega, by omega⟩ | omega) (by first | with_reducible assumption | omega | exact ⟨by omega, by omega⟩ | omega)) (cwV 2 hts (lw_V q2441 q2443 qs22 q49 q2444) rfl rfl rfl hd_X4_newestOf ⟨Nat.le_of_ble_eq_true rfl, Nat.le_of_ble_eq_true rfl⟩) (z_preV hK hS (zN_le hAn hS) hT.1 rfl rfl) rfl rfl hl.1 rfl (lv_room (Nat.le_of_ble_eq_true rfl)) dX4_merge_98 ⟨Nat.le_of_ble_eq_true rfl, Nat.le_of_ble_eq_true rfl⟩) hS (zN_le hAn hS) rfl rfl (fun locs hS => ?_)
            refine lv_istore (lv' := [(6, .int (iI (tw_newestOf w a2 a3))), (5, .int (iI (bI (((tw_isPerson a1) && (tw_isBranch w a2 a3)) && ((decide (tw_holderOf w a2 0 = (-1))) && (decide (w 3 < 60))))))), (4, .int (iI (bI ((tw_isPerson a1) && (tw_isBranch w a2 a3))))), (0, .ref t.1), (1, .int (iI a1)), (2, .int (iI a2)), (3, .int (iI a3))]) hx hb dX4_merge_101 hl (by decide) rfl (fun ls hl => ?_)
            refine lv_aload_n hx hb dX4_merge_103 rfl (lv_at hl 3 rfl) ?_
            refine lv_iload_n hx hb dX4_merge_104 rfl (lv_at hl 5 rfl) ?_
            refine lv_iconst (v := iI 0) hx hb dX4_merge_105 rfl ?_
            refine z_callp (vx_runV (As := [.int (iI a2), .int (iI 0)]) (rest := []) ⟨hx, hb, hml, hown, hts⟩ (tc_newestOf l hT (d := a2) (b := 0) (by first | with_reducible assumption | omega | exact ⟨by omega, by omega⟩ | omega) (by first | with_reducible assumption | omega | exact ⟨by omega, by omega⟩ | omega) (by first | with_reducible assumption | omega | exact ⟨by omega, by omega⟩ | omega)) (cwV 2 hts (lw_V q2441 q2443 qs22 q49 q2444) rfl rfl rfl hd_X4_newestOf ⟨Nat.le_of_ble_eq_true rfl, Nat.le_of_ble_eq_true rfl⟩) (z_preV hK hS (zN_le hAn hS) hT.1 rfl rfl) rfl rfl hl.1 rfl (lv_room (Nat.le_of_ble_eq_true rfl)) dX4_merge_106 ⟨Nat.le_of_ble_eq_true rfl, Nat.le_of_ble_eq_true rfl⟩) hS (zN_le hAn hS) rfl rfl (fun locs hS => ?_)
            refine lv_istore (lv' := [(7, .int (iI (tw_newestOf w a2 0))), (6, .int (iI (tw_newestOf w a2 a3))), (5, .int (iI (bI (((tw_isPerson a1) && (tw_isBranch w a2 a3)) && ((decide (tw_holderOf w a2 0 = (-1))) && (decide (w 3 < 60))))))), (4, .int (iI (bI ((tw_isPerson a1) && (tw_isBranch w a2 a3))))), (0, .ref t.1), (1, .int (iI a1)), (2, .int (iI a2)), (3, .int (iI a3))]) hx hb dX4_merge_109 hl (by decide) rfl (fun ls hl => ?_)
            refine lv_aload_n hx hb dX4_merge_111 rfl (lv_at hl 4 rfl) ?_
            refine z_get (k := 0) hx hb hts in_X4 hown hK hT.1 rfl (by decide) q2331 rfl (v := .ref t.2.1) rfl dX4_merge_112 ?_
            refine lv_iload_n hx hb dX4_merge_115 rfl (lv_at hl 6 rfl) ?_
            refine lv_iload_n hx hb dX4_merge_116 rfl (lv_at hl 7 rfl) ?_
            refine z_callp (vx_runS (As := [.int (iI a2), .int (iI a3)]) (rest := [.ref t.2.1]) ⟨hx, hb, hml, hown, hts⟩ (tc_place l (d := a2) (b := a3)) (va_cwS 2 hts (lw_S q2398 q2399 q49 q2400) rfl rfl rfl hn_X4_place ⟨Nat.le_of_ble_eq_true rfl, Nat.le_of_ble_eq_true rfl⟩) (z_preS hK hS (zN_le hAn hS)) rfl rfl hl.1 rfl (lv_room (Nat.le_of_ble_eq_true rfl)) dX4_merge_117 ⟨Nat.le_of_ble_eq_true rfl, Nat.le_of_ble_eq_true rfl⟩) hS (zN_le hAn hS) rfl rfl (fun locs hS => ?_)
            refine lv_iconst (v := iI 0) hx hb dX4_merge_120 rfl ?_
            refine z_iadd0 hx hb dX4_merge_121 ?_
            refine z_ildZ (i := 5 + 32 * a2 + 8 + 8 * a3) (f := w) hx hb hK hT.2.1 ⟨by omega, by omega⟩ (by decide) dX4_merge_122 ?_
            have r_15 : inR (w (5 + 32 * a2 + 8 + 8 * a3)) := hT.2.2.2.2.2.2.1 (5 + 32 * a2 + 8 + 8 * a3)
            refine lv_istore (lv' := [(8, .int (iI (w (5 + 32 * a2 + 8 + 8 * a3)))), (7, .int (iI (tw_newestOf w a2 0))), (6, .int (iI (tw_newestOf w a2 a3))), (5, .int (iI (bI (((tw_isPerson a1) && (tw_isBranch w a2 a3)) && ((decide (tw_holderOf w a2 0 = (-1))) && (decide (w 3 < 60))))))), (4, .int (iI (bI ((tw_isPerson a1) && (tw_isBranch w a2 a3))))), (0, .ref t.1), (1, .int (iI a1)), (2, .int (iI a2)), (3, .int (iI a3))]) hx hb dX4_merge_123 hl (by decide) rfl (fun ls hl => ?_)
            refine lv_aload_n hx hb dX4_merge_125 rfl (lv_at hl 5 rfl) ?_
            refine lv_iload_n hx hb dX4_merge_126 rfl (lv_at hl 7 rfl) ?_
            refine lv_iconst (v := iI 0) hx hb dX4_merge_127 rfl ?_
            refine lv_aload_n hx hb dX4_merge_128 rfl (lv_at hl 5 rfl) ?_
            refine z_get (k := 0) hx hb hts in_X4 hown hK hT.1 rfl (by decide) q2331 rfl (v := .ref t.2.1) rfl dX4_merge_129 ?_
            refine lv_iload hx hb dX4_merge_132 (lv_at hl 1 rfl) ?_
            refine z_callp (vx_runS (As := [.int (iI (tw_newestOf w a2 0))]) (rest := [.ref t.2.1, .int (iI 0), .int (iI a2), .ref t.1]) ⟨hx, hb, hml, hown, hts⟩ (tc_ver l (v := tw_newestOf w a2 0)) (va_cwS 1 hts (lw_S q2405 q2406 q49 q2407) rfl rfl rfl hn_X4_ver ⟨Nat.le_of_ble_eq_true rfl, Nat.le_of_ble_eq_true rfl⟩) (z_preS hK hS (zN_le hAn hS)) rfl rfl hl.1 rfl (lv_room (Nat.le_of_ble_eq_true rfl)) dX4_merge_134 ⟨Nat.le_of_ble_eq_true rfl, Nat.le_of_ble_eq_true rfl⟩) hS (zN_le hAn hS) rfl rfl (fun locs hS => ?_)
            refine lv_iconst (v := iI 2) hx hb dX4_merge_137 rfl ?_
            refine z_iadd (x := 261 + 9 * tw_newestOf w a2 0) (y := 2) hx hb dX4_merge_138 ?_
            refine z_ildZ (i := 261 + 9 * tw_newestOf w a2 0 + 2) (f := w) hx hb hK hT.2.1 ⟨by omega, by omega⟩ (by decide) dX4_merge_139 ?_
            have r_16 : inR (w (261 + 9 * tw_newestOf w a2 0 + 2)) := hT.2.2.2.2.2.2.1 (261 + 9 * tw_newestOf w a2 0 + 2)
            refine lv_aload_n hx hb dX4_merge_140 rfl (lv_at hl 5 rfl) ?_
            refine z_get (k := 0) hx hb hts in_X4 hown hK hT.1 rfl (by decide) q2331 rfl (v := .ref t.2.1) rfl dX4_merge_141 ?_
            refine lv_iload hx hb dX4_merge_144 (lv_at hl 1 rfl) ?_
            refine z_callp (vx_runS (As := [.int (iI (tw_newestOf w a2 0))]) (rest := [.ref t.2.1, .int (iI (w (261 + 9 * tw_newestOf w a2 0 + 2))), .int (iI 0), .int (iI a2), .ref t.1]) ⟨hx, hb, hml, hown, hts⟩ (tc_ver l (v := tw_newestOf w a2 0)) (va_cwS 1 hts (lw_S q2405 q2406 q49 q2407) rfl rfl rfl hn_X4_ver ⟨Nat.le_of_ble_eq_true rfl, Nat.le_of_ble_eq_true rfl⟩) (z_preS hK hS (zN_le hAn hS)) rfl rfl hl.1 rfl (lv_room (Nat.le_of_ble_eq_true rfl)) dX4_merge_146 ⟨Nat.le_of_ble_eq_true rfl, Nat.le_of_ble_eq_true rfl⟩) hS (zN_le hAn hS) rfl rfl (fun locs hS => ?_)
            refine lv_iconst (v := iI 3) hx hb dX4_merge_149 rfl ?_
            refine z_iadd (x := 261 + 9 * tw_newestOf w a2 0) (y := 3) hx hb dX4_merge_150 ?_
            refine z_ildZ (i := 261 + 9 * tw_newestOf w a2 0 + 3) (f := w) hx hb hK hT.2.1 ⟨by omega, by omega⟩ (by decide) dX4_merge_151 ?_
            have r_17 : inR (w (261 + 9 * tw_newestOf w a2 0 + 3)) := hT.2.2.2.2.2.2.1 (261 + 9 * tw_newestOf w a2 0 + 3)
            refine lv_iconst (v := iI 1) hx hb dX4_merge_152 rfl ?_
            refine z_iadd (x := w (261 + 9 * tw_newestOf w a2 0 + 3)) (y := 1) hx hb dX4_merge_153 ?_
            refine lv_iload hx hb dX4_merge_154 (lv_at hl 1 rfl) ?_
            refine z_callp (vx_runS (As := [.int (iI (tw_newestOf w a2 0))]) (rest := [.int (iI (w (261 + 9 * tw_newestOf w a2 0 + 3) + 1)), .int (iI (w (261 + 9 * tw_newestOf w a2 0 + 2))), .int (iI 0), .int (iI a2), .ref t.1]) ⟨hx, hb, hml, hown, hts⟩ (tc_ver l (v := tw_newestOf w a2 0)) (va_cwS 1 hts (lw_S q2405 q2406 q49 q2407) rfl rfl rfl hn_X4_ver ⟨Nat.le_of_ble_eq_true rfl, Nat.le_of_ble_eq_true rfl⟩) (z_preS hK hS (zN_le hAn hS)) rfl rfl hl.1 rfl (lv_room (Nat.le_of_ble_eq_true rfl)) dX4_merge_156 ⟨Nat.le_of_ble_eq_true rfl, Nat.le_of_ble_eq_true rfl⟩) hS (zN_le hAn hS) rfl rfl (fun locs hS => ?_)
            refine lv_iconst (v := iI 4) hx hb dX4_merge_159 rfl ?_
            refine z_iadd (x := 261 + 9 * tw_newestOf w a2 0) (y := 4) hx hb dX4_merge_160 ?_
            refine z_callm (v := .int (iI (w 3))) (P := (fun H1 => zT G t (tw_make w a2 0 (w (261 + 9 * tw_newestOf w a2 0 + 2)) (w (261 + 9 * tw_newestOf w a2 0 + 3) + 1) (261 + 9 * tw_newestOf w a2 0 + 4)) kp lg hr ev rd (tw_ok3 ((tw_isPerson a1) && (tw_isBranch w a2 a3)) (!(decide (a3 = 0))) ((((tw_isPerson a1) && (tw_isBranch w a2 a3)) && ((decide (tw_holderOf w a2 0 = (-1))) && (decide (w 3 < 60)))) && (tw_writes w a1 a2))) H1)) (vx_runV (As := [.int (iI a2), .int (iI 0), .int (iI (w (261 + 9 * tw_newestOf w a2 0 + 2))), .int (iI (w (261 + 9 * tw_newestOf w a2 0 + 3) + 1)), .int (iI (261 + 9 * tw_newestOf w a2 0 + 4))]) (rest := []) ⟨hx, hb, hml, hown, hts⟩ (tc_make l hT (d := a2) (b := 0) (mj := w (261 + 9 * tw_newestOf w a2 0 + 2)) (mn := w (261 + 9 * tw_newestOf w a2 0 + 3) + 1) (vals := 261 + 9 * tw_newestOf w a2 0 + 4) (by first | with_reducible assumption | omega | exact ⟨by omega, by omega⟩ | omega) (by first | with_reducible assumption | omega | exact ⟨by omega, by omega⟩ | omega) (by first | with_reducible assumption | omega | exact ⟨by omega, by omega⟩ | omega) (by first | with_reducible assumption | omega | exact ⟨by omega, by omega⟩ | omega) (by first | with_reducible assumption | omega | exact ⟨by omega, by omega⟩ | omega) (by first | with_reducible assumption | omega | exact ⟨by omega, by omega⟩ | omega)) (cwV 5 hts (lw_V q2401 q2403 qs15 q49 q2404) rfl rfl rfl hd_X4_make ⟨Nat.le_of_ble_eq_true rfl, Nat.le_of_ble_eq_true rfl⟩) (z_preV hK hS (zTw_le hTA hAn hS) hT.1 rfl rfl) rfl rfl hl.1 rfl (lv_room (Nat.le_of_ble_eq_true rfl)) dX4_merge_161 ⟨Nat.le_of_ble_eq_true rfl, Nat.le_of_ble_eq_true rfl⟩) hS (zTw_le hTA hAn hS) rfl rfl (fun H locs hT hS => ?_)
            refine lv_istore (lv' := [(9, .int (iI (w 3))), (8, .int (iI (w (5 + 32 * a2 + 8 + 8 * a3)))), (7, .int (iI (tw_newestOf w a2 0))), (6, .int (iI (tw_newestOf w a2 a3))), (5, .int (iI (bI (((tw_isPerson a1) && (tw_isBranch w a2 a3)) && ((decide (tw_holderOf w a2 0 = (-1))) && (decide (w 3 < 60))))))), (4, .int (iI (bI ((tw_isPerson a1) && (tw_isBranch w a2 a3))))), (0, .ref t.1), (1, .int (iI a1)), (2, .int (iI a2)), (3, .int (iI a3))]) hx hb dX4_merge_164 hl (by decide) rfl (fun ls hl => ?_)
            refine lv_iconst (v := iI 0) hx hb dX4_merge_166 rfl ?_
            refine lv_istore (lv' := [(10, .int (iI 0)), (9, .int (iI (w 3))), (8, .int (iI (w (5 + 32 * a2 + 8 + 8 * a3)))), (7, .int (iI (tw_newestOf w a2 0))), (6, .int (iI (tw_newestOf w a2 a3))), (5, .int (iI (bI (((tw_isPerson a1) && (tw_isBranch w a2 a3)) && ((decide (tw_holderOf w a2 0 = (-1))) && (decide (w 3 < 60))))))), (4, .int (iI (bI ((tw_isPerson a1) && (tw_isBranch w a2 a3))))), (0, .ref t.1), (1, .int (iI a1)), (2, .int (iI a2)), (3, .int (iI a3))]) hx hb dX4_merge_167 hl (by decide) rfl (fun ls hl => ?_)
            refine lv_iconst (v := iI 0) hx hb dX4_merge_169 rfl ?_
            refine lv_istore (lv' := [(11, .int (iI 0)), (10, .int (iI 0)), (9, .int (iI (w 3))), (8, .int (iI (w (5 + 32 * a2 + 8 + 8 * a3)))), (7, .int (iI (tw_newestOf w a2 0))), (6, .int (iI (tw_newestOf w a2 a3))), (5, .int (iI (bI (((tw_isPerson a1) && (tw_isBranch w a2 a3)) && ((decide (tw_holderOf w a2 0 = (-1))) && (decide (w 3 < 60))))))), (4, .int (iI (bI ((tw_isPerson a1) && (tw_isBranch w a2 a3))))), (0, .ref t.1), (1, .int (iI a1)), (2, .int (iI a2)), (3, .int (iI a3))]) hx hb dX4_merge_170 hl (by decide) rfl (fun ls hl => ?_)
            refine z_loopH (A := zTw t s.heap) (H0 := s.heap) (nL := 15) (hd := 172) (fun i_18 : Nat => [(10, .int (iI (tw_mgc w (w (5 + 32 * a2 + 8 + 8 * a3)) (tw_newestOf w a2 0) (tw_newestOf w a2 a3) i_18))), (11, .int (iI ((i_18 : Nat) : Int))), (9, .int (iI (w 3))), (8, .int (iI (w (5 + 32 * a2 + 8 + 8 * a3)))), (7, .int (iI (tw_newestOf w a2 0))), (6, .int (iI (tw_newestOf w a2 a3))), (0, .ref t.1), (1, .int (iI a1)), (2, .int (iI a2)), (3, .int (iI a3))]) (fun (i_18 : Nat) (H : Heap) => (i_18 : Int) ≤ 3 ∧ zT G t (tw_mg (tw_make w a2 0 (w (261 + 9 * tw_newestOf w a2 0 + 2)) (w (261 + 9 * tw_newestOf w a2 0 + 3) + 1) (261 + 9 * tw_newestOf w a2 0 + 4)) w (w (5 + 32 * a2 + 8 + 8 * a3)) (tw_newestOf w a2 0) (tw_newestOf w a2 a3) (w 3) i_18) kp lg hr ev rd (tw_ok3 ((tw_isPerson a1) && (tw_isBranch w a2 a3)) (!(decide (a3 = 0))) ((((tw_isPerson a1) && (tw_isBranch w a2 a3)) && ((decide (tw_holderOf w a2 0 = (-1))) && (decide (w 3 < 60)))) && (tw_writes w a1 a2))) H) (fun _ => 0) (fun _ => 0) (fun i_18 : Nat => (3 : Int).toNat - i_18) (fun i_18 H locs hi_18 hS ih_19 ls hl => ?_) 0 _ _ ?_ hS ls (z_lvren (lv_sub hl [1, 0, 2, 3, 4, 5, 8, 9, 10, 11] rfl) (by rfl))
            · have hl : lv_has ls 15 [(10, .int (iI (tw_mgc w (w (5 + 32 * a2 + 8 + 8 * a3)) (tw_newestOf w a2 0) (tw_newestOf w a2 a3) i_18))), (11, .int (iI ((i_18 : Nat) : Int))), (9, .int (iI (w 3))), (8, .int (iI (w (5 + 32 * a2 + 8 + 8 * a3)))), (7, .int (iI (tw_newestOf w a2 0))), (6, .int (iI (tw_newestOf w a2 a3))), (0, .ref t.1), (1, .int (iI a1)), (2, .int (iI a2)), (3, .int (iI a3))] := hl
              obtain ⟨hi_18, hT⟩ : (i_18 : Int) ≤ 3 ∧ zT G t (tw_mg (tw_make w a2 0 (w (261 + 9 * tw_newestOf w a2 0 + 2)) (w (261 + 9 * tw_newestOf w a2 0 + 3) + 1) (261 + 9 * tw_newestOf w a2 0 + 4)) w (w (5 + 32 * a2 + 8 + 8 * a3)) (tw_newestOf w a2 0) (tw_newestOf w a2 a3) (w 3) i_18) kp lg hr ev rd (tw_ok3 ((tw_isPerson a1) && (tw_isBranch w a2 a3)) (!(decide (a3 = 0))) ((((tw_isPerson a1) && (tw_isBranch w a2 a3)) && ((decide (tw_holderOf w a2 0 = (-1))) && (decide (w 3 < 60)))) && (tw_writes w a1 a2))) H := hi_18
              refine lv_iload hx hb dX4_merge_172 (lv_at hl 1 rfl) ?_
              refine lv_iconst (v := iI 3) hx hb dX4_merge_174 rfl ?_
              refine z_icmp_ge (x := ((i_18 : Nat) : Int)) (y := 3) (tgt := 302) hx hb (by first | with_reducible assumption | omega | exact ⟨by omega, by omega⟩) (by decide) dX4_merge_175 (by decide) (fun c_20 => ?_) (fun c_20 => ?_)
              · obtain rfl : i_18 = 3 := by omega
                refine lv_aload_n hx hb dX4_merge_302 rfl (lv_at hl 6 rfl) ?_
                refine z_get (k := 0) hx hb hts in_X4 hown hK hT.1 rfl (by decide) q2331 rfl (v := .ref t.2.1) rfl dX4_merge_303 ?_
                refine lv_iload_n hx hb dX4_merge_306 rfl (lv_at hl 8 rfl) ?_
                refine lv_iload_n hx hb dX4_merge_307 rfl (lv_at hl 9 rfl) ?_
                refine z_callp (vx_runS (As := [.int (iI a2), .int (iI a3)]) (rest := [.ref t.2.1]) ⟨hx, hb, hml, hown, hts⟩ (tc_place l (d := a2) (b := a3)) (va_cwS 2 hts (lw_S q2398 q2399 q49 q2400) rfl rfl rfl hn_X4_place ⟨Nat.le_of_ble_eq_true rfl, Nat.le_of_ble_eq_true rfl⟩) (z_preS hK hS (zN_le hAn hS)) rfl rfl hl.1 rfl (lv_room (Nat.le_of_ble_eq_true rfl)) dX4_merge_308 ⟨Nat.le_of_ble_eq_true rfl, Nat.le_of_ble_eq_true rfl⟩) hS (zN_le hAn hS) rfl rfl (fun locs hS => ?_)
                refine lv_iconst (v := iI 0) hx hb dX4_merge_311 rfl ?_
                refine z_iadd0 hx hb dX4_merge_312 ?_
                refine lv_iload hx hb dX4_merge_313 (lv_at hl 5 rfl) ?_
                refine zt_st (i := 5 + 32 * a2 + 8 + 8 * a3) (x := tw_newestOf w a2 a3) hx hb hK hT hTA hS ⟨by omega, by omega⟩ (tw_newestOf_inR (by with_reducible assumption)) dX4_merge_315 (fun H locs hT hS => ?_)
                refine lv_aload_n hx hb dX4_merge_316 rfl (lv_at hl 6 rfl) ?_
                refine lv_bipush (v := iI 12) hx hb dX4_merge_317 (by decide) ?_
                refine lv_iload_n hx hb dX4_merge_319 rfl (lv_at hl 7 rfl) ?_
                refine lv_iload_n hx hb dX4_merge_320 rfl (lv_at hl 8 rfl) ?_
                refine lv_iload_n hx hb dX4_merge_321 rfl (lv_at hl 9 rfl) ?_
                refine lv_iconst (v := iI 0) hx hb dX4_merge_322 rfl ?_
                refine lv_iconst (v := iI 0) hx hb dX4_merge_323 rfl ?_
                refine z_callmv (P := (fun H1 => zT G t (zup (tw_mg (tw_make w a2 0 (w (261 + 9 * tw_newestOf w a2 0 + 2)) (w (261 + 9 * tw_newestOf w a2 0 + 3) + 1) (261 + 9 * tw_newestOf w a2 0 + 4)) w (w (5 + 32 * a2 + 8 + 8 * a3)) (tw_newestOf w a2 0) (tw_newestOf w a2 a3) (w 3) 3) (5 + 32 * a2 + 8 + 8 * a3) (tw_newestOf w a2 a3)) kp (kL rd 0 ev lg 12 a1 a2 a3 0 0) (kH rd 0 ev hr ((zup (tw_mg (tw_make w a2 0 (w (261 + 9 * tw_newestOf w a2 0 + 2)) (w (261 + 9 * tw_newestOf w a2 0 + 3) + 1) (261 + 9 * tw_newestOf w a2 0 + 4)) w (w (5 + 32 * a2 + 8 + 8 * a3)) (tw_newestOf w a2 0) (tw_newestOf w a2 a3) (w 3) 3) (5 + 32 * a2 + 8 + 8 * a3) (tw_newestOf w a2 a3)) 0)) (kE rd 0 ev) rd (tw_ok3 ((tw_isPerson a1) && (tw_isBranch w a2 a3)) (!(decide (a3 = 0))) ((((tw_isPerson a1) && (tw_isBranch w a2 a3)) && ((decide (tw_holderOf w a2 0 = (-1))) && (decide (w 3 < 60)))) && (tw_writes w a1 a2))) H1)) (vx_runV (As := [.int (iI 12), .int (iI a1), .int (iI a2), .int (iI a3), .int (iI 0), .int (iI 0)]) (rest := []) ⟨hx, hb, hml, hown, hts⟩ (tc_keep l hT (k0 := 12) (a1 := a1) (a2 := a2) (a3 := a3) (a4 := 0) (a5 := 0) (by first | with_reducible assumption | omega | exact ⟨by omega, by omega⟩ | omega) (by first | with_reducible assumption | omega | exact ⟨by omega, by omega⟩ | omega) (by first | with_reducible assumption | omega | exact ⟨by omega, by omega⟩ | omega) (by first | with_reducible assumption | omega | exact ⟨by omega, by omega⟩ | omega) (by first | with_reducible assumption | omega | exact ⟨by omega, by omega⟩ | omega) (by first | with_reducible assumption | omega | exact ⟨by omega, by omega⟩ | omega) (by first | with_reducible assumption | omega | exact ⟨by omega, by omega⟩ | omega)) (cwV 6 hts (lw_V q2376 q2378 qs13 q49 q2379) rfl rfl rfl hd_X4_keep ⟨Nat.le_of_ble_eq_true rfl, Nat.le_of_ble_eq_true rfl⟩) (z_preV hK hS (zTw_le hTA hAn hS) hT.1 rfl rfl) rfl rfl hl.1 rfl (lv_room (Nat.le_of_ble_eq_true rfl)) dX4_merge_324 ⟨Nat.le_of_ble_eq_true rfl, Nat.le_of_ble_eq_true rfl⟩) hS (zTw_le hTA hAn hS) rfl rfl (fun H locs hT hS => ?_)
                refine lv_iload hx hb dX4_merge_327 (lv_at hl 0 rfl) ?_
                exact z_iret hx hb hret rfl hlocks hS (by have hc : tC_merge w a1 a2 a3 = 0 := (by unfold tC_merge; simp only [tw_ok3_0]; first | assumption | (simp_all; done)); exact z_okend hc rfl hT) (Nat.le_of_ble_eq_true rfl) (Nat.le_of_ble_eq_true rfl) dX4_merge_329
              · refine lv_aload_n hx hb dX4_merge_178 rfl (lv_at hl 6 rfl) ?_
                refine z_get (k := 0) hx hb hts in_X4 hown hK hT.1 rfl (by decide) q2331 rfl (v := .ref t.2.1) rfl dX4_merge_179 ?_
                refine lv_iload hx hb dX4_merge_182 (lv_at hl 3 rfl) ?_
                refine z_callp (vx_runS (As := [.int (iI (w (5 + 32 * a2 + 8 + 8 * a3)))]) (rest := [.ref t.2.1]) ⟨hx, hb, hml, hown, hts⟩ (tc_ver l (v := w (5 + 32 * a2 + 8 + 8 * a3))) (va_cwS 1 hts (lw_S q2405 q2406 q49 q2407) rfl rfl rfl hn_X4_ver ⟨Nat.le_of_ble_eq_true rfl, Nat.le_of_ble_eq_true rfl⟩) (z_preS hK hS (zN_le hAn hS)) rfl rfl hl.1 rfl (lv_room (Nat.le_of_ble_eq_true rfl)) dX4_merge_184 ⟨Nat.le_of_ble_eq_true rfl, Nat.le_of_ble_eq_true rfl⟩) hS (zN_le hAn hS) rfl rfl (fun locs hS => ?_)
                refine lv_iconst (v := iI 4) hx hb dX4_merge_187 rfl ?_
                refine z_iadd (x := 261 + 9 * w (5 + 32 * a2 + 8 + 8 * a3)) (y := 4) hx hb dX4_merge_188 ?_
                refine lv_iload hx hb dX4_merge_189 (lv_at hl 1 rfl) ?_
                refine z_iadd (x := 261 + 9 * w (5 + 32 * a2 + 8 + 8 * a3) + 4) (y := ((i_18 : Nat) : Int)) hx hb dX4_merge_191 ?_
                refine z_ildZ (i := 261 + 9 * w (5 + 32 * a2 + 8 + 8 * a3) + 4 + ((i_18 : Nat) : Int)) (f := tw_mg (tw_make w a2 0 (w (261 + 9 * tw_newestOf w a2 0 + 2)) (w (261 + 9 * tw_newestOf w a2 0 + 3) + 1) (261 + 9 * tw_newestOf w a2 0 + 4)) w (w (5 + 32 * a2 + 8 + 8 * a3)) (tw_newestOf w a2 0) (tw_newestOf w a2 a3) (w 3) i_18) hx hb hK hT.2.1 ⟨by omega, by omega⟩ (by decide) dX4_merge_192 ?_
                refine z_top (x := (tw_mg (tw_make w a2 0 (w (261 + 9 * tw_newestOf w a2 0 + 2)) (w (261 + 9 * tw_newestOf w a2 0 + 3) + 1) (261 + 9 * tw_newestOf w a2 0 + 4)) w (w (5 + 32 * a2 + 8 + 8 * a3)) (tw_newestOf w a2 0) (tw_newestOf w a2 a3) (w 3) i_18) (261 + 9 * w (5 + 32 * a2 + 8 + 8 * a3) + 4 + ((i_18 : Nat) : Int))) (y := w (261 + 9 * w (5 + 32 * a2 + 8 + 8 * a3) + 4 + ((i_18 : Nat) : Int))) (by rw [tw_mg_n _ (by omega), tw_make_n (by omega) (by omega)]) ?_
                have r_21 : inR (w (261 + 9 * w (5 + 32 * a2 + 8 + 8 * a3) + 4 + ((i_18 : Nat) : Int))) := (by first | exact hwR _ | exact hT.2.2.2.2.2.2.1 (261 + 9 * w (5 + 32 * a2 + 8 + 8 * a3) + 4 + ((i_18 : Nat) : Int)))
                refine lv_istore (lv' := [(12, .int (iI (w (261 + 9 * w (5 + 32 * a2 + 8 + 8 * a3) + 4 + ((i_18 : Nat) : Int))))), (10, .int (iI (tw_mgc w (w (5 + 32 * a2 + 8 + 8 * a3)) (tw_newestOf w a2 0) (tw_newestOf w a2 a3) i_18))), (11, .int (iI ((i_18 : Nat) : Int))), (9, .int (iI (w 3))), (8, .int (iI (w (5 + 32 * a2 + 8 + 8 * a3)))), (7, .int (iI (tw_newestOf w a2 0))), (6, .int (iI (tw_newestOf w a2 a3))), (0, .ref t.1), (1, .int (iI a1)), (2, .int (iI a2)), (3, .int (iI a3))]) hx hb dX4_merge_193 hl (by decide) rfl (fun ls hl => ?_)
                refine lv_aload_n hx hb dX4_merge_195 rfl (lv_at hl 7 rfl) ?_
                refine z_get (k := 0) hx hb hts in_X4 hown hK hT.1 rfl (by decide) q2331 rfl (v := .ref t.2.1) rfl dX4_merge_196 ?_
                refine lv_iload hx hb dX4_merge_199 (lv_at hl 5 rfl) ?_
                refine z_callp (vx_runS (As := [.int (iI (tw_newestOf w a2 0))]) (rest := [.ref t.2.1]) ⟨hx, hb, hml, hown, hts⟩ (tc_ver l (v := tw_newestOf w a2 0)) (va_cwS 1 hts (lw_S q2405 q2406 q49 q2407) rfl rfl rfl hn_X4_ver ⟨Nat.le_of_ble_eq_true rfl, Nat.le_of_ble_eq_true rfl⟩) (z_preS hK hS (zN_le hAn hS)) rfl rfl hl.1 rfl (lv_room (Nat.le_of_ble_eq_true rfl)) dX4_merge_201 ⟨Nat.le_of_ble_eq_true rfl, Nat.le_of_ble_eq_true rfl⟩) hS (zN_le hAn hS) rfl rfl (fun locs hS => ?_)
                refine lv_iconst (v := iI 4) hx hb dX4_merge_204 rfl ?_
                refine z_iadd (x := 261 + 9 * tw_newestOf w a2 0) (y := 4) hx hb dX4_merge_205 ?_
                refine lv_iload hx hb dX4_merge_206 (lv_at hl 2 rfl) ?_
                refine z_iadd (x := 261 + 9 * tw_newestOf w a2 0 + 4) (y := ((i_18 : Nat) : Int)) hx hb dX4_merge_208 ?_
                refine z_ildZ (i := 261 + 9 * tw_newestOf w a2 0 + 4 + ((i_18 : Nat) : Int)) (f := tw_mg (tw_make w a2 0 (w (261 + 9 * tw_newestOf w a2 0 + 2)) (w (261 + 9 * tw_newestOf w a2 0 + 3) + 1) (261 + 9 * tw_newestOf w a2 0 + 4)) w (w (5 + 32 * a2 + 8 + 8 * a3)) (tw_newestOf w a2 0) (tw_newestOf w a2 a3) (w 3) i_18) hx hb hK hT.2.1 ⟨by omega, by omega⟩ (by decide) dX4_merge_209 ?_
                refine z_top (x := (tw_mg (tw_make w a2 0 (w (261 + 9 * tw_newestOf w a2 0 + 2)) (w (261 + 9 * tw_newestOf w a2 0 + 3) + 1) (261 + 9 * tw_newestOf w a2 0 + 4)) w (w (5 + 32 * a2 + 8 + 8 * a3)) (tw_newestOf w a2 0) (tw_newestOf w a2 a3) (w 3) i_18) (261 + 9 * tw_newestOf w a2 0 + 4 + ((i_18 : Nat) : Int))) (y := w (261 + 9 * tw_newestOf w a2 0 + 4 + ((i_18 : Nat) : Int))) (by rw [tw_mg_n _ (by omega), tw_make_n (by omega) (by omega)]) ?_
                have r_22 : inR (w (261 + 9 * tw_newestOf w a2 0 + 4 + ((i_18 : Nat) : Int))) := (by first | exact hwR _ | exact hT.2.2.2.2.2.2.1 (261 + 9 * tw_newestOf w a2 0 + 4 + ((i_18 : Nat) : Int)))
                refine lv_istore (lv' := [(13, .int (iI (w (261 + 9 * tw_newestOf w a2 0 + 4 + ((i_18 : Nat) : Int))))), (12, .int (iI (w (261 + 9 * w (5 + 32 * a2 + 8 + 8 * a3) + 4 + ((i_18 : Nat) : Int))))), (10, .int (iI (tw_mgc w (w (5 + 32 * a2 + 8 + 8 * a3)) (tw_newestOf w a2 0) (tw_newestOf w a2 a3) i_18))), (11, .int (iI ((i_18 : Nat) : Int))), (9, .int (iI (w 3))), (8, .int (iI (w (5 + 32 * a2 + 8 + 8 * a3)))), (7, .int (iI (tw_newestOf w a2 0))), (6, .int (iI (tw_newestOf w a2 a3))), (0, .ref t.1), (1, .int (iI a1)), (2, .int (iI a2)), (3, .int (iI a3))]) hx hb dX4_merge_210 hl (by decide) rfl (fun ls hl => ?_)
                refine lv_aload_n hx hb dX4_merge_212 rfl (lv_at hl 8 rfl) ?_
                refine z_get (k := 0) hx hb hts in_X4 hown hK hT.1 rfl (by decide) q2331 rfl (v := .ref t.2.1) rfl dX4_merge_213 ?_
                refine lv_iload hx hb dX4_merge_216 (lv_at hl 7 rfl) ?_
                refine z_callp (vx_runS (As := [.int (iI (tw_newestOf w a2 a3))]) (rest := [.ref t.2.1]) ⟨hx, hb, hml, hown, hts⟩ (tc_ver l (v := tw_newestOf w a2 a3)) (va_cwS 1 hts (lw_S q2405 q2406 q49 q2407) rfl rfl rfl hn_X4_ver ⟨Nat.le_of_ble_eq_true rfl, Nat.le_of_ble_eq_true rfl⟩) (z_preS hK hS (zN_le hAn hS)) rfl rfl hl.1 rfl (lv_room (Nat.le_of_ble_eq_true rfl)) dX4_merge_218 ⟨Nat.le_of_ble_eq_true rfl, Nat.le_of_ble_eq_true rfl⟩) hS (zN_le hAn hS) rfl rfl (fun locs hS => ?_)
                refine lv_iconst (v := iI 4) hx hb dX4_merge_221 rfl ?_
                refine z_iadd (x := 261 + 9 * tw_newestOf w a2 a3) (y := 4) hx hb dX4_merge_222 ?_
                refine lv_iload hx hb dX4_merge_223 (lv_at hl 3 rfl) ?_
                refine z_iadd (x := 261 + 9 * tw_newestOf w a2 a3 + 4) (y := ((i_18 : Nat) : Int)) hx hb dX4_merge_225 ?_
                refine z_ildZ (i := 261 + 9 * tw_newestOf w a2 a3 + 4 + ((i_18 : Nat) : Int)) (f := tw_mg (tw_make w a2 0 (w (261 + 9 * tw_newestOf w a2 0 + 2)) (w (261 + 9 * tw_newestOf w a2 0 + 3) + 1) (261 + 9 * tw_newestOf w a2 0 + 4)) w (w (5 + 32 * a2 + 8 + 8 * a3)) (tw_newestOf w a2 0) (tw_newestOf w a2 a3) (w 3) i_18) hx hb hK hT.2.1 ⟨by omega, by omega⟩ (by decide) dX4_merge_226 ?_
                refine z_top (x := (tw_mg (tw_make w a2 0 (w (261 + 9 * tw_newestOf w a2 0 + 2)) (w (261 + 9 * tw_newestOf w a2 0 + 3) + 1) (261 + 9 * tw_newestOf w a2 0 + 4)) w (w (5 + 32 * a2 + 8 + 8 * a3)) (tw_newestOf w a2 0) (tw_newestOf w a2 a3) (w 3) i_18) (261 + 9 * tw_newestOf w a2 a3 + 4 + ((i_18 : Nat) : Int))) (y := w (261 + 9 * tw_newestOf w a2 a3 + 4 + ((i_18 : Nat) : Int))) (by rw [tw_mg_n _ (by omega), tw_make_n (by omega) (by omega)]) ?_
                have r_23 : inR (w (261 + 9 * tw_newestOf w a2 a3 + 4 + ((i_18 : Nat) : Int))) := (by first | exact hwR _ | exact hT.2.2.2.2.2.2.1 (261 + 9 * tw_newestOf w a2 a3 + 4 + ((i_18 : Nat) : Int)))
                refine lv_istore (lv' := [(14, .int (iI (w (261 + 9 * tw_newestOf w a2 a3 + 4 + ((i_18 : Nat) : Int))))), (13, .int (iI (w (261 + 9 * tw_newestOf w a2 0 + 4 + ((i_18 : Nat) : Int))))), (12, .int (iI (w (261 + 9 * w (5 + 32 * a2 + 8 + 8 * a3) + 4 + ((i_18 : Nat) : Int))))), (10, .int (iI (tw_mgc w (w (5 + 32 * a2 + 8 + 8 * a3)) (tw_newestOf w a2 0) (tw_newestOf w a2 a3) i_18))), (11, .int (iI ((i_18 : Nat) : Int))), (9, .int (iI (w 3))), (8, .int (iI (w (5 + 32 * a2 + 8 + 8 * a3)))), (7, .int (iI (tw_newestOf w a2 0))), (6, .int (iI (tw_newestOf w a2 a3))), (0, .ref t.1), (1, .int (iI a1)), (2, .int (iI a2)), (3, .int (iI a3))]) hx hb dX4_merge_227 hl (by decide) rfl (fun ls hl => ?_)
                refine lv_aload_n hx hb dX4_merge_229 rfl (lv_at hl 9 rfl) ?_
                refine z_get (k := 0) hx hb hts in_X4 hown hK hT.1 rfl (by decide) q2331 rfl (v := .ref t.2.1) rfl dX4_merge_230 ?_
                refine lv_iload hx hb dX4_merge_233 (lv_at hl 5 rfl) ?_
                refine z_callp (vx_runS (As := [.int (iI (w 3))]) (rest := [.ref t.2.1]) ⟨hx, hb, hml, hown, hts⟩ (tc_ver l (v := w 3)) (va_cwS 1 hts (lw_S q2405 q2406 q49 q2407) rfl rfl rfl hn_X4_ver ⟨Nat.le_of_ble_eq_true rfl, Nat.le_of_ble_eq_true rfl⟩) (z_preS hK hS (zN_le hAn hS)) rfl rfl hl.1 rfl (lv_room (Nat.le_of_ble_eq_true rfl)) dX4_merge_235 ⟨Nat.le_of_ble_eq_true rfl, Nat.le_of_ble_eq_true rfl⟩) hS (zN_le hAn hS) rfl rfl (fun locs hS => ?_)
                refine lv_iconst (v := iI 4) hx hb dX4_merge_238 rfl ?_
                refine z_iadd (x := 261 + 9 * w 3) (y := 4) hx hb dX4_merge_239 ?_
                refine lv_iload hx hb dX4_merge_240 (lv_at hl 4 rfl) ?_
                refine z_iadd (x := 261 + 9 * w 3 + 4) (y := ((i_18 : Nat) : Int)) hx hb dX4_merge_242 ?_
                refine lv_iload hx hb dX4_merge_243 (lv_at hl 0 rfl) ?_
                refine lv_iload hx hb dX4_merge_245 (lv_at hl 2 rfl) ?_
                refine z_join (pc2 := 264) (nL := 15) (lv := [(14, .int (iI (w (261 + 9 * tw_newestOf w a2 a3 + 4 + ((i_18 : Nat) : Int))))), (13, .int (iI (w (261 + 9 * tw_newestOf w a2 0 + 4 + ((i_18 : Nat) : Int))))), (12, .int (iI (w (261 + 9 * w (5 + 32 * a2 + 8 + 8 * a3) + 4 + ((i_18 : Nat) : Int))))), (10, .int (iI (tw_mgc w (w (5 + 32 * a2 + 8 + 8 * a3)) (tw_newestOf w a2 0) (tw_newestOf w a2 a3) i_18))), (11, .int (iI ((i_18 : Nat) : Int))), (9, .int (iI (w 3))), (8, .int (iI (w (5 + 32 * a2 + 8 + 8 * a3)))), (7, .int (iI (tw_newestOf w a2 0))), (6, .int (iI (tw_newestOf w a2 a3))), (0, .ref t.1), (1, .int (iI a1)), (2, .int (iI a2)), (3, .int (iI a3))]) (st2 := [.int (iI (if w (261 + 9 * tw_newestOf w a2 a3 + 4 + ((i_18 : Nat) : Int)) = w (261 + 9 * w (5 + 32 * a2 + 8 + 8 * a3) + 4 + ((i_18 : Nat) : Int)) then w (261 + 9 * tw_newestOf w a2 0 + 4 + ((i_18 : Nat) : Int)) else if w (261 + 9 * tw_newestOf w a2 0 + 4 + ((i_18 : Nat) : Int)) = w (261 + 9 * w (5 + 32 * a2 + 8 + 8 * a3) + 4 + ((i_18 : Nat) : Int)) then w (261 + 9 * tw_newestOf w a2 a3 + 4 + ((i_18 : Nat) : Int)) else w (261 + 9 * tw_newestOf w a2 0 + 4 + ((i_18 : Nat) : Int)))), .int (iI (261 + 9 * w 3 + 4 + ((i_18 : Nat) : Int))), .ref t.2.1]) hS (fun J_24 => ?_) (fun locs ls hS hl => ?_)
                · refine z_icmp_eq (x := w (261 + 9 * tw_newestOf w a2 a3 + 4 + ((i_18 : Nat) : Int))) (y := w (261 + 9 * w (5 + 32 * a2 + 8 + 8 * a3) + 4 + ((i_18 : Nat) : Int))) (tgt := 262) hx hb (by first | with_reducible assumption | omega | exact ⟨by omega, by omega⟩) (by first | with_reducible assumption | omega | exact ⟨by omega, by omega⟩) dX4_merge_247 (by decide) (fun c_25 => ?_) (fun c_25 => ?_)
                  · refine lv_iload hx hb dX4_merge_262 (lv_at hl 1 rfl) ?_
                    refine z_top (x := w (261 + 9 * tw_newestOf w a2 0 + 4 + ((i_18 : Nat) : Int))) (y := if w (261 + 9 * tw_newestOf w a2 a3 + 4 + ((i_18 : Nat) : Int)) = w (261 + 9 * w (5 + 32 * a2 + 8 + 8 * a3) + 4 + ((i_18 : Nat) : Int)) then w (261 + 9 * tw_newestOf w a2 0 + 4 + ((i_18 : Nat) : Int)) else if w (261 + 9 * tw_newestOf w a2 0 + 4 + ((i_18 : Nat) : Int)) = w (261 + 9 * w (5 + 32 * a2 + 8 + 8 * a3) + 4 + ((i_18 : Nat) : Int)) then w (261 + 9 * tw_newestOf w a2 a3 + 4 + ((i_18 : Nat) : Int)) else w (261 + 9 * tw_newestOf w a2 0 + 4 + ((i_18 : Nat) : Int))) (by simp [bI, c_25]) ?_
                    exact J_24 _ ls hS (lv_sub hl [0, 1, 2, 3, 4, 5, 6, 7, 8, 9, 10, 11, 12] rfl)
                  · refine lv_iload hx hb dX4_merge_250 (lv_at hl 1 rfl) ?_
                    refine lv_iload hx hb dX4_merge_252 (lv_at hl 2 rfl) ?_
                    refine z_icmp_ne (x := w (261 + 9 * tw_newestOf w a2 0 + 4 + ((i_18 : Nat) : Int))) (y := w (261 + 9 * w (5 + 32 * a2 + 8 + 8 * a3) + 4 + ((i_18 : Nat) : Int))) (tgt := 262) hx hb (by first | with_reducible assumption | omega | exact ⟨by omega, by omega⟩) (by first | with_reducible assumption | omega | exact ⟨by omega, by omega⟩) dX4_merge_254 (by decide) (fun c_26 => ?_) (fun c_26 => ?_)
                    · refine lv_iload hx hb dX4_merge_262 (lv_at hl 1 rfl) ?_
                      refine z_top (x := w (261 + 9 * tw_newestOf w a2 0 + 4 + ((i_18 : Nat) : Int))) (y := if w (261 + 9 * tw_newestOf w a2 a3 + 4 + ((i_18 : Nat) : Int)) = w (261 + 9 * w (5 + 32 * a2 + 8 + 8 * a3) + 4 + ((i_18 : Nat) : Int)) then w (261 + 9 * tw_newestOf w a2 0 + 4 + ((i_18 : Nat) : Int)) else if w (261 + 9 * tw_newestOf w a2 0 + 4 + ((i_18 : Nat) : Int)) = w (261 + 9 * w (5 + 32 * a2 + 8 + 8 * a3) + 4 + ((i_18 : Nat) : Int)) then w (261 + 9 * tw_newestOf w a2 a3 + 4 + ((i_18 : Nat) : Int)) else w (261 + 9 * tw_newestOf w a2 0 + 4 + ((i_18 : Nat) : Int))) (by simp [bI, c_25, c_26]) ?_
                      exact J_24 _ ls hS (lv_sub hl [0, 1, 2, 3, 4, 5, 6, 7, 8, 9, 10, 11, 12] rfl)
                    · refine lv_iload hx hb dX4_merge_257 (lv_at hl 0 rfl) ?_
                      refine lv_goto (tgt := 264) hx hb dX4_merge_259 (by decide) ?_
                      refine z_top (x := w (261 + 9 * tw_newestOf w a2 a3 + 4 + ((i_18 : Nat) : Int))) (y := if w (261 + 9 * tw_newestOf w a2 a3 + 4 + ((i_18 : Nat) : Int)) = w (261 + 9 * w (5 + 32 * a2 + 8 + 8 * a3) + 4 + ((i_18 : Nat) : Int)) then w (261 + 9 * tw_newestOf w a2 0 + 4 + ((i_18 : Nat) : Int)) else if w (261 + 9 * tw_newestOf w a2 0 + 4 + ((i_18 : Nat) : Int)) = w (261 + 9 * w (5 + 32 * a2 + 8 + 8 * a3) + 4 + ((i_18 : Nat) : Int)) then w (261 + 9 * tw_newestOf w a2 a3 + 4 + ((i_18 : Nat) : Int)) else w (261 + 9 * tw_newestOf w a2 0 + 4 + ((i_18 : Nat) : Int))) (by simp [bI, c_25, c_26]) ?_
                      exact J_24 _ ls hS (lv_sub hl [0, 1, 2, 3, 4, 5, 6, 7, 8, 9, 10, 11, 12] rfl)
                · refine zt_st (i := 261 + 9 * w 3 + 4 + ((i_18 : Nat) : Int)) (x := if w (261 + 9 * tw_newestOf w a2 a3 + 4 + ((i_18 : Nat) : Int)) = w (261 + 9 * w (5 + 32 * a2 + 8 + 8 * a3) + 4 + ((i_18 : Nat) : Int)) then w (261 + 9 * tw_newestOf w a2 0 + 4 + ((i_18 : Nat) : Int)) else if w (261 + 9 * tw_newestOf w a2 0 + 4 + ((i_18 : Nat) : Int)) = w (261 + 9 * w (5 + 32 * a2 + 8 + 8 * a3) + 4 + ((i_18 : Nat) : Int)) then w (261 + 9 * tw_newestOf w a2 a3 + 4 + ((i_18 : Nat) : Int)) else w (261 + 9 * tw_newestOf w a2 0 + 4 + ((i_18 : Nat) : Int))) hx hb hK hT hTA hS ⟨by omega, by omega⟩ (by (repeat' split) <;> first | decide | assumption | exact ⟨by omega, by omega⟩) dX4_merge_264 (fun H locs hT hS => ?_)
                  refine lv_iload hx hb dX4_merge_265 (lv_at hl 3 rfl) ?_
                  refine lv_iload hx hb dX4_merge_267 (lv_at hl 0 rfl) ?_
                  refine lv_iload hx hb dX4_merge_269 (lv_at hl 2 rfl) ?_
                  refine z_join (pc2 := 293) (nL := 15) (lv := [(14, .int (iI (w (261 + 9 * tw_newestOf w a2 a3 + 4 + ((i_18 : Nat) : Int))))), (13, .int (iI (w (261 + 9 * tw_newestOf w a2 0 + 4 + ((i_18 : Nat) : Int))))), (12, .int (iI (w (261 + 9 * w (5 + 32 * a2 + 8 + 8 * a3) + 4 + ((i_18 : Nat) : Int))))), (10, .int (iI (tw_mgc w (w (5 + 32 * a2 + 8 + 8 * a3)) (tw_newestOf w a2 0) (tw_newestOf w a2 a3) i_18))), (11, .int (iI ((i_18 : Nat) : Int))), (9, .int (iI (w 3))), (8, .int (iI (w (5 + 32 * a2 + 8 + 8 * a3)))), (7, .int (iI (tw_newestOf w a2 0))), (6, .int (iI (tw_newestOf w a2 a3))), (0, .ref t.1), (1, .int (iI a1)), (2, .int (iI a2)), (3, .int (iI a3))]) (st2 := [.int (iI (bI (!(decide (w (261 + 9 * tw_newestOf w a2 a3 + 4 + ((i_18 : Nat) : Int)) = w (261 + 9 * w (5 + 32 * a2 + 8 + 8 * a3) + 4 + ((i_18 : Nat) : Int)))) && (!(decide (w (261 + 9 * tw_newestOf w a2 0 + 4 + ((i_18 : Nat) : Int)) = w (261 + 9 * w (5 + 32 * a2 + 8 + 8 * a3) + 4 + ((i_18 : Nat) : Int)))) && (!(decide (w (261 + 9 * tw_newestOf w a2 a3 + 4 + ((i_18 : Nat) : Int)) = w (261 + 9 * tw_newestOf w a2 0 + 4 + ((i_18 : Nat) : Int))))))))), .int (iI (tw_mgc w (w (5 + 32 * a2 + 8 + 8 * a3)) (tw_newestOf w a2 0) (tw_newestOf w a2 a3) i_18))]) hS (fun J_27 => ?_) (fun locs ls hS hl => ?_)
                  · refine z_icmp_eq (x := w (261 + 9 * tw_newestOf w a2 a3 + 4 + ((i_18 : Nat) : Int))) (y := w (261 + 9 * w (5 + 32 * a2 + 8 + 8 * a3) + 4 + ((i_18 : Nat) : Int))) (tgt := 292) hx hb (by first | with_reducible assumption | omega | exact ⟨by omega, by omega⟩) (by first | with_reducible assumption | omega | exact ⟨by omega, by omega⟩) dX4_merge_271 (by decide) (fun c_28 => ?_) (fun c_28 => ?_)
                    · refine lv_iconst (v := iI 0) hx hb dX4_merge_292 rfl ?_
                      refine z_top (x := 0) (y := bI (!(decide (w (261 + 9 * tw_newestOf w a2 a3 + 4 + ((i_18 : Nat) : Int)) = w (261 + 9 * w (5 + 32 * a2 + 8 + 8 * a3) + 4 + ((i_18 : Nat) : Int)))) && (!(decide (w (261 + 9 * tw_newestOf w a2 0 + 4 + ((i_18 : Nat) : Int)) = w (261 + 9 * w (5 + 32 * a2 + 8 + 8 * a3) + 4 + ((i_18 : Nat) : Int)))) && (!(decide (w (261 + 9 * tw_newestOf w a2 a3 + 4 + ((i_18 : Nat) : Int)) = w (261 + 9 * tw_newestOf w a2 0 + 4 + ((i_18 : Nat) : Int)))))))) (by simp [bI, c_28]) ?_
                      exact J_27 _ ls hS (lv_sub hl [0, 1, 2, 3, 4, 5, 6, 7, 8, 9, 10, 11, 12] rfl)
                    · refine lv_iload hx hb dX4_merge_274 (lv_at hl 1 rfl) ?_
                      refine lv_iload hx hb dX4_merge_276 (lv_at hl 2 rfl) ?_
                      refine z_icmp_eq (x := w (261 + 9 * tw_newestOf w a2 0 + 4 + ((i_18 : Nat) : Int))) (y := w (261 + 9 * w (5 + 32 * a2 + 8 + 8 * a3) + 4 + ((i_18 : Nat) : Int))) (tgt := 292) hx hb (by first | with_reducible assumption | omega | exact ⟨by omega, by omega⟩) (by first | with_reducible assumption | omega | exact ⟨by omega, by omega⟩) dX4_merge_278 (by decide) (fun c_29 => ?_) (fun c_29 => ?_)
                      · refine lv_iconst (v := iI 0) hx hb dX4_merge_292 rfl ?_
                        refine z_top (x := 0) (y := bI (!(decide (w (261 + 9 * tw_newestOf w a2 a3 + 4 + ((i_18 : Nat) : Int)) = w (261 + 9 * w (5 + 32 * a2 + 8 + 8 * a3) + 4 + ((i_18 : Nat) : Int)))) && (!(decide (w (261 + 9 * tw_newestOf w a2 0 + 4 + ((i_18 : Nat) : Int)) = w (261 + 9 * w (5 + 32 * a2 + 8 + 8 * a3) + 4 + ((i_18 : Nat) : Int)))) && (!(decide (w (261 + 9 * tw_newestOf w a2 a3 + 4 + ((i_18 : Nat) : Int)) = w (261 + 9 * tw_newestOf w a2 0 + 4 + ((i_18 : Nat) : Int)))))))) (by simp [bI, c_28, c_29]) ?_
                        exact J_27 _ ls hS (lv_sub hl [0, 1, 2, 3, 4, 5, 6, 7, 8, 9, 10, 11, 12] rfl)
                      · refine lv_iload hx hb dX4_merge_281 (lv_at hl 0 rfl) ?_
                        refine lv_iload hx hb dX4_merge_283 (lv_at hl 1 rfl) ?_
                        refine z_icmp_eq (x := w (261 + 9 * tw_newestOf w a2 a3 + 4 + ((i_18 : Nat) : Int))) (y := w (261 + 9 * tw_newestOf w a2 0 + 4 + ((i_18 : Nat) : Int))) (tgt := 292) hx hb (by first | with_reducible assumption | omega | exact ⟨by omega, by omega⟩) (by first | with_reducible assumption | omega | exact ⟨by omega, by omega⟩) dX4_merge_285 (by decide) (fun c_30 => ?_) (fun c_30 => ?_)
                        · refine lv_iconst (v := iI 0) hx hb dX4_merge_292 rfl ?_
                          refine z_top (x := 0) (y := bI (!(decide (w (261 + 9 * tw_newestOf w a2 a3 + 4 + ((i_18 : Nat) : Int)) = w (261 + 9 * w (5 + 32 * a2 + 8 + 8 * a3) + 4 + ((i_18 : Nat) : Int)))) && (!(decide (w (261 + 9 * tw_newestOf w a2 0 + 4 + ((i_18 : Nat) : Int)) = w (261 + 9 * w (5 + 32 * a2 + 8 + 8 * a3) + 4 + ((i_18 : Nat) : Int)))) && (!(decide (w (261 + 9 * tw_newestOf w a2 a3 + 4 + ((i_18 : Nat) : Int)) = w (261 + 9 * tw_newestOf w a2 0 + 4 + ((i_18 : Nat) : Int)))))))) (by simp [bI, c_28, c_29, c_30]) ?_
                          exact J_27 _ ls hS (lv_sub hl [0, 1, 2, 3, 4, 5, 6, 7, 8, 9, 10, 11, 12] rfl)
                        · refine lv_iconst (v := iI 1) hx hb dX4_merge_288 rfl ?_
                          refine lv_goto (tgt := 293) hx hb dX4_merge_289 (by decide) ?_
                          refine z_top (x := 1) (y := bI (!(decide (w (261 + 9 * tw_newestOf w a2 a3 + 4 + ((i_18 : Nat) : Int)) = w (261 + 9 * w (5 + 32 * a2 + 8 + 8 * a3) + 4 + ((i_18 : Nat) : Int)))) && (!(decide (w (261 + 9 * tw_newestOf w a2 0 + 4 + ((i_18 : Nat) : Int)) = w (261 + 9 * w (5 + 32 * a2 + 8 + 8 * a3) + 4 + ((i_18 : Nat) : Int)))) && (!(decide (w (261 + 9 * tw_newestOf w a2 a3 + 4 + ((i_18 : Nat) : Int)) = w (261 + 9 * tw_newestOf w a2 0 + 4 + ((i_18 : Nat) : Int)))))))) (by simp [bI, c_28, c_29, c_30]) ?_
                          exact J_27 _ ls hS (lv_sub hl [0, 1, 2, 3, 4, 5, 6, 7, 8, 9, 10, 11, 12] rfl)
                  · refine z_iadd (x := tw_mgc w (w (5 + 32 * a2 + 8 + 8 * a3)) (tw_newestOf w a2 0) (tw_newestOf w a2 a3) i_18) (y := bI (!(decide (w (261 + 9 * tw_newestOf w a2 a3 + 4 + ((i_18 : Nat) : Int)) = w (261 + 9 * w (5 + 32 * a2 + 8 + 8 * a3) + 4 + ((i_18 : Nat) : Int)))) && (!(decide (w (261 + 9 * tw_newestOf w a2 0 + 4 + ((i_18 : Nat) : Int)) = w (261 + 9 * w (5 + 32 * a2 + 8 + 8 * a3) + 4 + ((i_18 : Nat) : Int)))) && (!(decide (w (261 + 9 * tw_newestOf w a2 a3 + 4 + ((i_18 : Nat) : Int)) = w (261 + 9 * tw_newestOf w a2 0 + 4 + ((i_18 : Nat) : Int)))))))) hx hb dX4_merge_293 ?_
                    refine lv_istore (lv' := [(10, .int (iI (tw_mgc w (w (5 + 32 * a2 + 8 + 8 * a3)) (tw_newestOf w a2 0) (tw_newestOf w a2 a3) i_18 + bI (!(decide (w (261 + 9 * tw_newestOf w a2 a3 + 4 + ((i_18 : Nat) : Int)) = w (261 + 9 * w (5 + 32 * a2 + 8 + 8 * a3) + 4 + ((i_18 : Nat) : Int)))) && (!(decide (w (261 + 9 * tw_newestOf w a2 0 + 4 + ((i_18 : Nat) : Int)) = w (261 + 9 * w (5 + 32 * a2 + 8 + 8 * a3) + 4 + ((i_18 : Nat) : Int)))) && (!(decide (w (261 + 9 * tw_newestOf w a2 a3 + 4 + ((i_18 : Nat) : Int)) = w (261 + 9 * tw_newestOf w a2 0 + 4 + ((i_18 : Nat) : Int)))))))))), (14, .int (iI (w (261 + 9 * tw_newestOf w a2 a3 + 4 + ((i_18 : Nat) : Int))))), (13, .int (iI (w (261 + 9 * tw_newestOf w a2 0 + 4 + ((i_18 : Nat) : Int))))), (12, .int (iI (w (261 + 9 * w (5 + 32 * a2 + 8 + 8 * a3) + 4 + ((i_18 : Nat) : Int))))), (11, .int (iI ((i_18 : Nat) : Int))), (9, .int (iI (w 3))), (8, .int (iI (w (5 + 32 * a2 + 8 + 8 * a3)))), (7, .int (iI (tw_newestOf w a2 0))), (6, .int (iI (tw_newestOf w a2 a3))), (0, .ref t.1), (1, .int (iI a1)), (2, .int (iI a2)), (3, .int (iI a3))]) hx hb dX4_merge_294 hl (by decide) rfl (fun ls hl => ?_)
                    refine lv_iinc (v := iI (((i_18 : Nat) : Int) + 1)) (lv' := [(11, .int (iI (((i_18 : Nat) : Int) + 1))), (10, .int (iI (tw_mgc w (w (5 + 32 * a2 + 8 + 8 * a3)) (tw_newestOf w a2 0) (tw_newestOf w a2 a3) i_18 + bI (!(decide (w (261 + 9 * tw_newestOf w a2 a3 + 4 + ((i_18 : Nat) : Int)) = w (261 + 9 * w (5 + 32 * a2 + 8 + 8 * a3) + 4 + ((i_18 : Nat) : Int)))) && (!(decide (w (261 + 9 * tw_newestOf w a2 0 + 4 + ((i_18 : Nat) : Int)) = w (261 + 9 * w (5 + 32 * a2 + 8 + 8 * a3) + 4 + ((i_18 : Nat) : Int)))) && (!(decide (w (261 + 9 * tw_newestOf w a2 a3 + 4 + ((i_18 : Nat) : Int)) = w (261 + 9 * tw_newestOf w a2 0 + 4 + ((i_18 : Nat) : Int)))))))))), (14, .int (iI (w (261 + 9 * tw_newestOf w a2 a3 + 4 + ((i_18 : Nat) : Int))))), (13, .int (iI (w (261 + 9 * tw_newestOf w a2 0 + 4 + ((i_18 : Nat) : Int))))), (12, .int (iI (w (261 + 9 * w (5 + 32 * a2 + 8 + 8 * a3) + 4 + ((i_18 : Nat) : Int))))), (9, .int (iI (w 3))), (8, .int (iI (w (5 + 32 * a2 + 8 + 8 * a3)))), (7, .int (iI (tw_newestOf w a2 0))), (6, .int (iI (tw_newestOf w a2 a3))), (0, .ref t.1), (1, .int (iI a1)), (2, .int (iI a2)), (3, .int (iI a3))]) hx hb dX4_merge_296 hl (k := 4) rfl (iI_add _ _) (by decide) rfl (fun ls hl => ?_)
                    refine lv_goto (tgt := 172) hx hb dX4_merge_299 (by decide) ?_
                    exact ih_19 (i_18 + 1) _ _ ⟨by omega, hT⟩ hS (by omega) ls (z_lvren (lv_sub hl [1, 0, 5, 6, 7, 8, 9, 10, 11, 12] rfl) (by first | rfl | simp))
            · exact ⟨by omega, hT⟩
          · refine lv_iconst (v := iI 0) hx hb dX4_merge_93 rfl ?_
            exact z_iret hx hb hret rfl hlocks hS (by have hc : ¬ tC_merge w a1 a2 a3 = 0 := (by unfold tC_merge; simp only [tw_ok3_0]; first | (simp_all; done) | assumption); exact z_noend hc hT) (Nat.le_of_ble_eq_true rfl) (Nat.le_of_ble_eq_true rfl) dX4_merge_94
theorem tw_are2l {w : Int → Int} {p d v : Int} (h : (tw_isPerson p && (tw_isDocument w d && tw_isVersion w v)) = true) : (0 ≤ p ∧ p ≤ 5) ∧ (0 ≤ d ∧ d < w 2) ∧ (0 ≤ v ∧ v < w 3) ∧ w (261 + 9 * v + 8) = 1 := by
  obtain ⟨h1, h2⟩ := Bool.and_eq_true_iff.mp h
  obtain ⟨h2, h3⟩ := Bool.and_eq_true_iff.mp h2
  exact ⟨tw_isPerson_iff.mp h1, tw_isDocument_iff.mp h2, tw_isVersion_iff.mp h3⟩
theorem tw_are2d {w : Int → Int} {p d v : Int} (h : (tw_isPerson p && (tw_isDocument w d && tw_isDocument w v)) = true) : (0 ≤ p ∧ p ≤ 5) ∧ (0 ≤ d ∧ d < w 2) ∧ (0 ≤ v ∧ v < w 2) := by
  obtain ⟨h1, h2⟩ := Bool.and_eq_true_iff.mp h
  obtain ⟨h2, h3⟩ := Bool.and_eq_true_iff.mp h2
  exact ⟨tw_isPerson_iff.mp h1, tw_isDocument_iff.mp h2, tw_isDocument_iff.mp h3⟩
theorem tw_are2k {w : Int → Int} {p k : Int} (h : (tw_isPerson p && tw_isLink w k) = true) : (0 ≤ p ∧ p ≤ 5) ∧ (0 ≤ k ∧ k < w 4) := by
  obtain ⟨h1, h2⟩ := Bool.and_eq_true_iff.mp h
  exact ⟨tw_isPerson_iff.mp h1, tw_isLink_iff.mp h2⟩
theorem tw_link_0 {w : Int → Int} {fr kd tg : Int} (h : tL w) : w 0 = tw_link w fr kd tg 0 := by
  unfold tw_link
  rw [zup_n (by omega), zup_n (by omega), zup_n (by omega), zup_n (by omega)]
def tC_linkVersion (w : Int → Int) (a1 a2 a3 : Int) : Int := tw_ok3 ((tw_isPerson a1) && ((tw_isDocument w a2) && (tw_isVersion w a3))) (((tw_isPerson a1) && ((tw_isDocument w a2) && (tw_isVersion w a3))) && ((tw_writes w a1 a2) && ((tw_sees w a1 a3) && (decide (w 4 < 24))))) true
def tW_linkVersion (w : Int → Int) (a1 a2 a3 : Int) : Int → Int := tw_link w a2 0 a3
def tA_linkVersion (w : Int → Int) (a1 a2 a3 : Int) : Int := w 4
theorem hn_X4_linkVersion : yX4_linkVersion.cls ≠ "java/lang/invoke/MethodHandle" ∧ yX4_linkVersion.cls ≠ "java/lang/invoke/VarHandle" ∧ (parseMethodDescriptor yX4_linkVersion.desc).map (fun d => d.parameters.length) = some 3 := by decide +kernel
theorem hd_X4_linkVersion : yX4_linkVersion.cls = "CheckoutDeskModel" ∧ yX4_linkVersion.cls ≠ "java/lang/invoke/MethodHandle" ∧ yX4_linkVersion.cls ≠ "java/lang/invoke/VarHandle" ∧ (parseMethodDescriptor yX4_linkVersion.desc).map (fun d => d.parameters.length) = some 3 := ⟨rfl, hn_X4_linkVersion⟩
abbrev rm_X4_linkVersion : Room := { frames := 4, cells := 0, slots := 0, locals := 81 }
set_option maxHeartbeats 1000000 in
theorem tc_linkVersion (l : Launch) {G : zG} {t : zTau} {w kp lg hr : Int → Int} {ev rd th : Int} {H0 : Heap} (hT : zT G t w kp lg hr ev rd th H0) {a1 a2 a3 : Int} (ha1 : inR a1) (ha2 : inR a2) (ha3 : inR a3) {n_ : Int} (hI : tInv n_ w) (hn_ : n_ < 2000) (hev2 : rd = 0 → ev < 2000) : zM l yX4_linkVersion (ws_ yX4_linkVersion cX4_linkVersion 5 (some .int)) rm_X4_linkVersion G (zTw t H0) [.ref t.1, .int (iI a1), .int (iI a2), .int (iI a3)] H0 (fun r H1 => r = some (.int (iI (kA (tC_linkVersion w a1 a2 a3) (tA_linkVersion w a1 a2 a3)))) ∧ zT G t (kW (tC_linkVersion w a1 a2 a3) w (tW_linkVersion w a1 a2 a3)) kp (kL rd (tC_linkVersion w a1 a2 a3) ev lg 13 a1 a2 a3 0 0) (kH rd (tC_linkVersion w a1 a2 a3) ev hr (tW_linkVersion w a1 a2 a3 0)) (kE rd (tC_linkVersion w a1 a2 a3) ev) rd (tC_linkVersion w a1 a2 a3) H1) (fun _ => False) := by
  refine z_enter (by decide +kernel) (Nat.le_of_ble_eq_true rfl) ?_
  intro p e s m args below meth c ls hx hb hret hml hown hts hlocks htab hnm hK hH hl
  subst hH
  have hAn : ∀ q, s.heap.size ≤ q → zTw t s.heap q := fun _ h => Or.inr h
  have hTA : ∀ q, zTA t q → zTw t s.heap q := fun _ h => Or.inl h
  have hS : va_S (zTw t s.heap) s.heap s.heap [] := va_S.rf
  have hl : lv_has ls 5 [(0, .ref t.1), (1, .int (iI a1)), (2, .int (iI a2)), (3, .int (iI a3))] := hl
  have hrd := hT.2.2.2.2.2.2.2.2.2.2.2
  have hev := hT.2.2.2.2.2.2.2.2.2.2.1
  have hwR := hT.2.2.2.2.2.2.1
  obtain ⟨hD, hV, hL, hB, hVd, hLk, hClk, hDoc, hBr, hVer, hLnk, hNew, hFr⟩ := hI
  refine lv_iload_n hx hb dX4_linkVersion_0 rfl (lv_at hl 1 rfl) ?_
  refine z_callp (vx_runS (As := [.int (iI a1)]) (rest := []) ⟨hx, hb, hml, hown, hts⟩ (tc_isPerson l (p_ := a1) (by first | with_reducible assumption | omega | exact ⟨by omega, by omega⟩ | omega)) (va_cwS 1 hts (lw_S q2392 q2393 q49 q2394) rfl rfl rfl hn_X4_isPerson ⟨Nat.le_of_ble_eq_true rfl, Nat.le_of_ble_eq_true rfl⟩) (z_preS hK hS (zN_le hAn hS)) rfl rfl hl.1 rfl (lv_room (Nat.le_of_ble_eq_true rfl)) dX4_linkVersion_1 ⟨Nat.le_of_ble_eq_true rfl, Nat.le_of_ble_eq_true rfl⟩) hS (zN_le hAn hS) rfl rfl (fun locs hS => ?_)
  refine z_join (pc2 := 28) (nL := 5) (lv := [(0, .ref t.1), (1, .int (iI a1)), (2, .int (iI a2)), (3, .int (iI a3))]) (st2 := [.int (iI (bI ((tw_isPerson a1) && ((tw_isDocument w a2) && (tw_isVersion w a3)))))]) hS (fun J_1 => ?_) (fun locs ls hS hl => ?_)
  · refine z_ifb_eq (b := tw_isPerson a1) (tgt := 27) hx hb dX4_linkVersion_4 (by decide) (fun c_2 => ?_) (fun c_2 => ?_)
    · refine lv_iconst (v := iI 0) hx hb dX4_linkVersion_27 rfl ?_
      refine z_top (x := 0) (y := bI ((tw_isPerson a1) && ((tw_isDocument w a2) && (tw_isVersion w a3)))) (by simp [bI, c_2]) ?_
      exact J_1 _ ls hS (lv_sub hl [0, 1, 2, 3] rfl)
    · refine lv_aload_n hx hb dX4_linkVersion_7 rfl (lv_at hl 0 rfl) ?_
      refine lv_iload_n hx hb dX4_linkVersion_8 rfl (lv_at hl 2 rfl) ?_
      refine z_callp (vx_runV (As := [.int (iI a2)]) (rest := []) ⟨hx, hb, hml, hown, hts⟩ (tc_isDocument l hT (d := a2) (by first | with_reducible assumption | omega | exact ⟨by omega, by omega⟩ | omega) (by first | with_reducible assumption | omega | exact ⟨by omega, by omega⟩ | omega)) (cwV 1 hts (lw_V q2412 q2414 qs16 q49 q2415) rfl rfl rfl hd_X4_isDocument ⟨Nat.le_of_ble_eq_true rfl, Nat.le_of_ble_eq_true rfl⟩) (z_preV hK hS (zN_le hAn hS) hT.1 rfl rfl) rfl rfl hl.1 rfl (lv_room (Nat.le_of_ble_eq_true rfl)) dX4_linkVersion_9 ⟨Nat.le_of_ble_eq_true rfl, Nat.le_of_ble_eq_true rfl⟩) hS (zN_le hAn hS) rfl rfl (fun locs hS => ?_)
      refine z_ifb_eq (b := tw_isDocument w a2) (tgt := 27) hx hb dX4_linkVersion_12 (by decide) (fun c_3 => ?_) (fun c_3 => ?_)
      · refine lv_iconst (v := iI 0) hx hb dX4_linkVersion_27 rfl ?_
        refine z_top (x := 0) (y := bI ((tw_isPerson a1) && ((tw_isDocument w a2) && (tw_isVersion w a3)))) (by simp [bI, c_2, c_3]) ?_
        exact J_1 _ ls hS (lv_sub hl [0, 1, 2, 3] rfl)
      · refine lv_aload_n hx hb dX4_linkVersion_15 rfl (lv_at hl 0 rfl) ?_
        refine lv_iload_n hx hb dX4_linkVersion_16 rfl (lv_at hl 3 rfl) ?_
        refine z_callp (vx_runV (As := [.int (iI a3)]) (rest := []) ⟨hx, hb, hml, hown, hts⟩ (tc_isVersion l hT (v := a3) (by first | with_reducible assumption | omega | exact ⟨by omega, by omega⟩ | omega) (by first | with_reducible assumption | omega | exact ⟨by omega, by omega⟩ | omega)) (cwV 1 hts (lw_V q2501 q2503 qs30 q49 q2504) rfl rfl rfl hd_X4_isVersion ⟨Nat.le_of_ble_eq_true rfl, Nat.le_of_ble_eq_true rfl⟩) (z_preV hK hS (zN_le hAn hS) hT.1 rfl rfl) rfl rfl hl.1 rfl (lv_room (Nat.le_of_ble_eq_true rfl)) dX4_linkVersion_17 ⟨Nat.le_of_ble_eq_true rfl, Nat.le_of_ble_eq_true rfl⟩) hS (zN_le hAn hS) rfl rfl (fun locs hS => ?_)
        refine z_ifb_eq (b := tw_isVersion w a3) (tgt := 27) hx hb dX4_linkVersion_20 (by decide) (fun c_4 => ?_) (fun c_4 => ?_)
        · refine lv_iconst (v := iI 0) hx hb dX4_linkVersion_27 rfl ?_
          refine z_top (x := 0) (y := bI ((tw_isPerson a1) && ((tw_isDocument w a2) && (tw_isVersion w a3)))) (by simp [bI, c_2, c_3, c_4]) ?_
          exact J_1 _ ls hS (lv_sub hl [0, 1, 2, 3] rfl)
        · refine lv_iconst (v := iI 1) hx hb dX4_linkVersion_23 rfl ?_
          refine lv_goto (tgt := 28) hx hb dX4_linkVersion_24 (by decide) ?_
          refine z_top (x := 1) (y := bI ((tw_isPerson a1) && ((tw_isDocument w a2) && (tw_isVersion w a3)))) (by simp [bI, c_2, c_3, c_4]) ?_
          exact J_1 _ ls hS (lv_sub hl [0, 1, 2, 3] rfl)
  · refine lv_istore (lv' := [(4, .int (iI (bI ((tw_isPerson a1) && ((tw_isDocument w a2) && (tw_isVersion w a3)))))), (0, .ref t.1), (1, .int (iI a1)), (2, .int (iI a2)), (3, .int (iI a3))]) hx hb dX4_linkVersion_28 hl (by decide) rfl (fun ls hl => ?_)
    refine lv_aload_n hx hb dX4_linkVersion_30 rfl (lv_at hl 1 rfl) ?_
    refine lv_iload hx hb dX4_linkVersion_31 (lv_at hl 0 rfl) ?_
    refine lv_iload hx hb dX4_linkVersion_33 (lv_at hl 0 rfl) ?_
    refine z_join (pc2 := 72) (nL := 5) (lv := [(4, .int (iI (bI ((tw_isPerson a1) && ((tw_isDocument w a2) && (tw_isVersion w a3)))))), (0, .ref t.1), (1, .int (iI a1)), (2, .int (iI a2)), (3, .int (iI a3))]) (st2 := [.int (iI (bI (((tw_isPerson a1) && ((tw_isDocument w a2) && (tw_isVersion w a3))) && ((tw_writes w a1 a2) && ((tw_sees w a1 a3) && (decide (w 4 < 24))))))), .int (iI (bI ((tw_isPerson a1) && ((tw_isDocument w a2) && (tw_isVersion w a3))))), .ref t.1]) hS (fun J_5 => ?_) (fun locs ls hS hl => ?_)
    · refine z_ifb_eq (b := (tw_isPerson a1) && ((tw_isDocument w a2) && (tw_isVersion w a3))) (tgt := 71) hx hb dX4_linkVersion_35 (by decide) (fun c_6 => ?_) (fun c_6 => ?_)
      · refine lv_iconst (v := iI 0) hx hb dX4_linkVersion_71 rfl ?_
        refine z_top (x := 0) (y := bI (((tw_isPerson a1) && ((tw_isDocument w a2) && (tw_isVersion w a3))) && ((tw_writes w a1 a2) && ((tw_sees w a1 a3) && (decide (w 4 < 24)))))) (by simp [bI, c_6]) ?_
        exact J_5 _ ls hS (lv_sub hl [0, 1, 2, 3, 4] rfl)
      · obtain ⟨hp, hd, hvx, hvt⟩ := tw_are2l c_6
        have hvd := hVd _ hvx.1 hvx.2
        refine lv_aload_n hx hb dX4_linkVersion_38 rfl (lv_at hl 1 rfl) ?_
        refine lv_iload_n hx hb dX4_linkVersion_39 rfl (lv_at hl 2 rfl) ?_
        refine lv_iload_n hx hb dX4_linkVersion_40 rfl (lv_at hl 3 rfl) ?_
        refine z_callp (vx_runV (As := [.int (iI a1), .int (iI a2)]) (rest := [.int (iI (bI ((tw_isPerson a1) && ((tw_isDocument w a2) && (tw_isVersion w a3))))), .ref t.1]) ⟨hx, hb, hml, hown, hts⟩ (tc_writes l hT (p_ := a1) (d := a2) (by first | with_reducible assumption | omega | exact ⟨by omega, by omega⟩ | omega) (by first | with_reducible assumption | omega | exact ⟨by omega, by omega⟩ | omega)) (cwV 2 hts (lw_V q2428 q2430 qs19 q49 q2431) rfl rfl rfl hd_X4_writes ⟨Nat.le_of_ble_eq_true rfl, Nat.le_of_ble_eq_true rfl⟩) (z_preV hK hS (zN_le hAn hS) hT.1 rfl rfl) rfl rfl hl.1 rfl (lv_room (Nat.le_of_ble_eq_true rfl)) dX4_linkVersion_41 ⟨Nat.le_of_ble_eq_true rfl, Nat.le_of_ble_eq_true rfl⟩) hS (zN_le hAn hS) rfl rfl (fun locs hS => ?_)
        refine z_ifb_eq (b := tw_writes w a1 a2) (tgt := 71) hx hb dX4_linkVersion_44 (by decide) (fun c_7 => ?_) (fun c_7 => ?_)
        · refine lv_iconst (v := iI 0) hx hb dX4_linkVersion_71 rfl ?_
          refine z_top (x := 0) (y := bI (((tw_isPerson a1) && ((tw_isDocument w a2) && (tw_isVersion w a3))) && ((tw_writes w a1 a2) && ((tw_sees w a1 a3) && (decide (w 4 < 24)))))) (by simp [bI, c_6, c_7]) ?_
          exact J_5 _ ls hS (lv_sub hl [0, 1, 2, 3, 4] rfl)
        · refine lv_aload_n hx hb dX4_linkVersion_47 rfl (lv_at hl 1 rfl) ?_
          refine lv_iload_n hx hb dX4_linkVersion_48 rfl (lv_at hl 2 rfl) ?_
          refine lv_iload_n hx hb dX4_linkVersion_49 rfl (lv_at hl 4 rfl) ?_
          refine z_callp (vx_runV (As := [.int (iI a1), .int (iI a3)]) (rest := [.int (iI (bI ((tw_isPerson a1) && ((tw_isDocument w a2) && (tw_isVersion w a3))))), .ref t.1]) ⟨hx, hb, hml, hown, hts⟩ (tc_sees l hT (p_ := a1) (v := a3) (by first | with_reducible assumption | omega | exact ⟨by omega, by omega⟩ | omega) (by first | with_reducible assumption | omega | exact ⟨by omega, by omega⟩ | omega) (by first | with_reducible assumption | omega | exact ⟨by omega, by omega⟩ | omega)) (cwV 2 hts (lw_V q2513 q2515 qs31 q49 q2516) rfl rfl rfl hd_X4_sees ⟨Nat.le_of_ble_eq_true rfl, Nat.le_of_ble_eq_true rfl⟩) (z_preV hK hS (zN_le hAn hS) hT.1 rfl rfl) rfl rfl hl.1 rfl (lv_room (Nat.le_of_ble_eq_true rfl)) dX4_linkVersion_50 ⟨Nat.le_of_ble_eq_true rfl, Nat.le_of_ble_eq_true rfl⟩) hS (zN_le hAn hS) rfl rfl (fun locs hS => ?_)
          refine z_ifb_eq (b := tw_sees w a1 a3) (tgt := 71) hx hb dX4_linkVersion_53 (by decide) (fun c_8 => ?_) (fun c_8 => ?_)
          · refine lv_iconst (v := iI 0) hx hb dX4_linkVersion_71 rfl ?_
            refine z_top (x := 0) (y := bI (((tw_isPerson a1) && ((tw_isDocument w a2) && (tw_isVersion w a3))) && ((tw_writes w a1 a2) && ((tw_sees w a1 a3) && (decide (w 4 < 24)))))) (by simp [bI, c_6, c_7, c_8]) ?_
            exact J_5 _ ls hS (lv_sub hl [0, 1, 2, 3, 4] rfl)
          · refine lv_aload_n hx hb dX4_linkVersion_56 rfl (lv_at hl 1 rfl) ?_
            refine z_get (k := 0) hx hb hts in_X4 hown hK hT.1 rfl (by decide) q2331 rfl (v := .ref t.2.1) rfl dX4_linkVersion_57 ?_
            refine lv_iconst (v := iI 4) hx hb dX4_linkVersion_60 rfl ?_
            refine z_ildZ (i := 4) (f := w) hx hb hK hT.2.1 ⟨by omega, by omega⟩ (by decide) dX4_linkVersion_61 ?_
            have r_9 : inR (w 4) := hT.2.2.2.2.2.2.1 4
            refine lv_bipush (v := iI 24) hx hb dX4_linkVersion_62 (by decide) ?_
            refine z_icmp_ge (x := w 4) (y := 24) (tgt := 71) hx hb (by first | with_reducible assumption | omega | exact ⟨by omega, by omega⟩) (by decide) dX4_linkVersion_64 (by decide) (fun c_10 => ?_) (fun c_10 => ?_)
            · refine lv_iconst (v := iI 0) hx hb dX4_linkVersion_71 rfl ?_
              refine z_top (x := 0) (y := bI (((tw_isPerson a1) && ((tw_isDocument w a2) && (tw_isVersion w a3))) && ((tw_writes w a1 a2) && ((tw_sees w a1 a3) && (decide (w 4 < 24)))))) (by simp [bI, c_6, c_7, c_8, c_10]) ?_
              exact J_5 _ ls hS (lv_sub hl [0, 1, 2, 3, 4] rfl)
            · refine lv_iconst (v := iI 1) hx hb dX4_linkVersion_67 rfl ?_
              refine lv_goto (tgt := 72) hx hb dX4_linkVersion_68 (by decide) ?_
              refine z_top (x := 1) (y := bI (((tw_isPerson a1) && ((tw_isDocument w a2) && (tw_isVersion w a3))) && ((tw_writes w a1 a2) && ((tw_sees w a1 a3) && (decide (w 4 < 24)))))) (by simp [bI, c_6, c_7, c_8, c_10]) ?_
              exact J_5 _ ls hS (lv_sub hl [0, 1, 2, 3, 4] rfl)
    · refine z_callm (v := .int (iI (bI (((tw_isPerson a1) && ((tw_isDocument w a2) && (tw_isVersion w a3))) && (((tw_isPerson a1) && ((tw_isDocument w a2) && (tw_isVersion w a3))) && ((tw_writes w a1 a2) && ((tw_sees w a1 a3) && (decide (w 4 < 24))))))))) (P := (fun H1 => zT G t w kp lg hr ev rd (tw_ok3 ((tw_isPerson a1) && ((tw_isDocument w a2) && (tw_isVersion w a3))) (((tw_isPerson a1) && ((tw_isDocument w a2) && (tw_isVersion w a3))) && ((tw_writes w a1 a2) && ((tw_sees w a1 a3) && (decide (w 4 < 24))))) true) H1)) (vx_runV (As := [.int (iI (bI ((tw_isPerson a1) && ((tw_isDocument w a2) && (tw_isVersion w a3))))), .int (iI (bI (((tw_isPerson a1) && ((tw_isDocument w a2) && (tw_isVersion w a3))) && ((tw_writes w a1 a2) && ((tw_sees w a1 a3) && (decide (w 4 < 24)))))))]) (rest := []) ⟨hx, hb, hml, hown, hts⟩ (tc_ok l hT (ba := (tw_isPerson a1) && ((tw_isDocument w a2) && (tw_isVersion w a3))) (bb := ((tw_isPerson a1) && ((tw_isDocument w a2) && (tw_isVersion w a3))) && ((tw_writes w a1 a2) && ((tw_sees w a1 a3) && (decide (w 4 < 24)))))) (cwV 2 hts (lw_V q2368 q2370 qs11 q49 q2371) rfl rfl rfl hd_X4_ok ⟨Nat.le_of_ble_eq_true rfl, Nat.le_of_ble_eq_true rfl⟩) (z_preV hK hS (zTw_le hTA hAn hS) hT.1 rfl rfl) rfl rfl hl.1 rfl (lv_room (Nat.le_of_ble_eq_true rfl)) dX4_linkVersion_72 ⟨Nat.le_of_ble_eq_true rfl, Nat.le_of_ble_eq_true rfl⟩) hS (zTw_le hTA hAn hS) rfl rfl (fun H locs hT hS => ?_)
      refine z_ifb_ne (b := ((tw_isPerson a1) && ((tw_isDocument w a2) && (tw_isVersion w a3))) && (((tw_isPerson a1) && ((tw_isDocument w a2) && (tw_isVersion w a3))) && ((tw_writes w a1 a2) && ((tw_sees w a1 a3) && (decide (w 4 < 24)))))) (tgt := 80) hx hb dX4_linkVersion_75 (by decide) (fun c_11 => ?_) (fun c_11 => ?_)
      · have hc := c_11
        obtain ⟨c_are, -⟩ := Bool.and_eq_true_iff.mp hc
        obtain ⟨hp, hd, hvx, hvt⟩ := tw_are2l c_are
        have hvd := hVd _ hvx.1 hvx.2
        simp only [Bool.and_eq_true, Bool.or_eq_true, decide_eq_true_eq, Bool.not_eq_eq_eq_not, Bool.not_true, decide_eq_false_iff_not, Bool.not_false] at hc
        refine lv_aload_n hx hb dX4_linkVersion_80 rfl (lv_at hl 1 rfl) ?_
        refine lv_bipush (v := iI 13) hx hb dX4_linkVersion_81 (by decide) ?_
        refine lv_iload_n hx hb dX4_linkVersion_83 rfl (lv_at hl 2 rfl) ?_
        refine lv_iload_n hx hb dX4_linkVersion_84 rfl (lv_at hl 3 rfl) ?_
        refine lv_iload_n hx hb dX4_linkVersion_85 rfl (lv_at hl 4 rfl) ?_
        refine lv_iconst (v := iI 0) hx hb dX4_linkVersion_86 rfl ?_
        refine lv_iconst (v := iI 0) hx hb dX4_linkVersion_87 rfl ?_
        refine z_callmv (P := (fun H1 => zT G t w kp (kL rd 0 ev lg 13 a1 a2 a3 0 0) (kH rd 0 ev hr (w 0)) (kE rd 0 ev) rd (tw_ok3 ((tw_isPerson a1) && ((tw_isDocument w a2) && (tw_isVersion w a3))) (((tw_isPerson a1) && ((tw_isDocument w a2) && (tw_isVersion w a3))) && ((tw_writes w a1 a2) && ((tw_sees w a1 a3) && (decide (w 4 < 24))))) true) H1)) (vx_runV (As := [.int (iI 13), .int (iI a1), .int (iI a2), .int (iI a3), .int (iI 0), .int (iI 0)]) (rest := []) ⟨hx, hb, hml, hown, hts⟩ (tc_keep l hT (k0 := 13) (a1 := a1) (a2 := a2) (a3 := a3) (a4 := 0) (a5 := 0) (by first | with_reducible assumption | omega | exact ⟨by omega, by omega⟩ | omega) (by first | with_reducible assumption | omega | exact ⟨by omega, by omega⟩ | omega) (by first | with_reducible assumption | omega | exact ⟨by omega, by omega⟩ | omega) (by first | with_reducible assumption | omega | exact ⟨by omega, by omega⟩ | omega) (by first | with_reducible assumption | omega | exact ⟨by omega, by omega⟩ | omega) (by first | with_reducible assumption | omega | exact ⟨by omega, by omega⟩ | omega) (by first | with_reducible assumption | omega | exact ⟨by omega, by omega⟩ | omega)) (cwV 6 hts (lw_V q2376 q2378 qs13 q49 q2379) rfl rfl rfl hd_X4_keep ⟨Nat.le_of_ble_eq_true rfl, Nat.le_of_ble_eq_true rfl⟩) (z_preV hK hS (zTw_le hTA hAn hS) hT.1 rfl rfl) rfl rfl hl.1 rfl (lv_room (Nat.le_of_ble_eq_true rfl)) dX4_linkVersion_88 ⟨Nat.le_of_ble_eq_true rfl, Nat.le_of_ble_eq_true rfl⟩) hS (zTw_le hTA hAn hS) rfl rfl (fun H locs hT hS => ?_)
        refine lv_aload_n hx hb dX4_linkVersion_91 rfl (lv_at hl 1 rfl) ?_
        refine lv_iload_n hx hb dX4_linkVersion_92 rfl (lv_at hl 3 rfl) ?_
        refine lv_iconst (v := iI 0) hx hb dX4_linkVersion_93 rfl ?_
        refine lv_iload_n hx hb dX4_linkVersion_94 rfl (lv_at hl 4 rfl) ?_
        refine z_callm (v := .int (iI (w 4))) (P := (fun H1 => zT G t (tw_link w a2 0 a3) kp (kL rd 0 ev lg 13 a1 a2 a3 0 0) (kH rd 0 ev hr (w 0)) (kE rd 0 ev) rd (tw_ok3 ((tw_isPerson a1) && ((tw_isDocument w a2) && (tw_isVersion w a3))) (((tw_isPerson a1) && ((tw_isDocument w a2) && (tw_isVersion w a3))) && ((tw_writes w a1 a2) && ((tw_sees w a1 a3) && (decide (w 4 < 24))))) true) H1)) (vx_runV (As := [.int (iI a2), .int (iI 0), .int (iI a3)]) (rest := []) ⟨hx, hb, hml, hown, hts⟩ (tc_link l hT (fr := a2) (kd := 0) (tg := a3) (by first | with_reducible assumption | omega | exact ⟨by omega, by omega⟩ | omega) (by first | with_reducible assumption | omega | exact ⟨by omega, by omega⟩ | omega) (by first | with_reducible assumption | omega | exact ⟨by omega, by omega⟩ | omega) (by first | with_reducible assumption | omega | exact ⟨by omega, by omega⟩ | omega)) (cwV 3 hts (lw_V q2517 q2519 qs32 q49 q2520) rfl rfl rfl hd_X4_link ⟨Nat.le_of_ble_eq_true rfl, Nat.le_of_ble_eq_true rfl⟩) (z_preV hK hS (zTw_le hTA hAn hS) hT.1 rfl rfl) rfl rfl hl.1 rfl (lv_room (Nat.le_of_ble_eq_true rfl)) dX4_linkVersion_95 ⟨Nat.le_of_ble_eq_true rfl, Nat.le_of_ble_eq_true rfl⟩) hS (zTw_le hTA hAn hS) rfl rfl (fun H locs hT hS => ?_)
        exact z_iret hx hb hret rfl hlocks hS (by have hc : tC_linkVersion w a1 a2 a3 = 0 := (by unfold tC_linkVersion; simp only [tw_ok3_0]; first | assumption | (simp_all; done)); exact z_okend hc (tw_link_0 hL) hT) (Nat.le_of_ble_eq_true rfl) (Nat.le_of_ble_eq_true rfl) dX4_linkVersion_98
      · refine lv_iconst (v := iI 0) hx hb dX4_linkVersion_78 rfl ?_
        exact z_iret hx hb hret rfl hlocks hS (by have hc : ¬ tC_linkVersion w a1 a2 a3 = 0 := (by unfold tC_linkVersion; simp only [tw_ok3_0]; first | (simp_all; done) | assumption); exact z_noend hc hT) (Nat.le_of_ble_eq_true rfl) (Nat.le_of_ble_eq_true rfl) dX4_linkVersion_79
def tC_linkDocument (w : Int → Int) (a1 a2 a3 a4 : Int) : Int := tw_ok3 ((tw_isPerson a1) && ((tw_isDocument w a2) && (tw_isDocument w a3))) (tw_lies a4 1 2) (((tw_isPerson a1) && ((tw_isDocument w a2) && (tw_isDocument w a3))) && ((tw_writes w a1 a2) && (decide (w 4 < 24))))
def tW_linkDocument (w : Int → Int) (a1 a2 a3 a4 : Int) : Int → Int := tw_link w a2 a4 a3
def tA_linkDocument (w : Int → Int) (a1 a2 a3 a4 : Int) : Int := w 4
theorem hn_X4_linkDocument : yX4_linkDocument.cls ≠ "java/lang/invoke/MethodHandle" ∧ yX4_linkDocument.cls ≠ "java/lang/invoke/VarHandle" ∧ (parseMethodDescriptor yX4_linkDocument.desc).map (fun d => d.parameters.length) = some 4 := by decide +kernel
theorem hd_X4_linkDocument : yX4_linkDocument.cls = "CheckoutDeskModel" ∧ yX4_linkDocument.cls ≠ "java/lang/invoke/MethodHandle" ∧ yX4_linkDocument.cls ≠ "java/lang/invoke/VarHandle" ∧ (parseMethodDescriptor yX4_linkDocument.desc).map (fun d => d.parameters.length) = some 4 := ⟨rfl, hn_X4_linkDocument⟩
abbrev rm_X4_linkDocument : Room := { frames := 4, cells := 0, slots := 0, locals := 80 }
set_option maxHeartbeats 1000000 in
theorem tc_linkDocument (l : Launch) {G : zG} {t : zTau} {w kp lg hr : Int → Int} {ev rd th : Int} {H0 : Heap} (hT : zT G t w kp lg hr ev rd th H0) {a1 a2 a3 a4 : Int} (ha1 : inR a1) (ha2 : inR a2) (ha3 : inR a3) (ha4 : inR a4) {n_ : Int} (hI : tInv n_ w) (hn_ : n_ < 2000) (hev2 : rd = 0 → ev < 2000) : zM l yX4_linkDocument (ws_ yX4_linkDocument cX4_linkDocument 6 (some .int)) rm_X4_linkDocument G (zTw t H0) [.ref t.1, .int (iI a1), .int (iI a2), .int (iI a3), .int (iI a4)] H0 (fun r H1 => r = some (.int (iI (kA (tC_linkDocument w a1 a2 a3 a4) (tA_linkDocument w a1 a2 a3 a4)))) ∧ zT G t (kW (tC_linkDocument w a1 a2 a3 a4) w (tW_linkDocument w a1 a2 a3 a4)) kp (kL rd (tC_linkDocument w a1 a2 a3 a4) ev lg 14 a1 a2 a3 a4 0) (kH rd (tC_linkDocument w a1 a2 a3 a4) ev hr (tW_linkDocument w a1 a2 a3 a4 0)) (kE rd (tC_linkDocument w a1 a2 a3 a4) ev) rd (tC_linkDocument w a1 a2 a3 a4) H1) (fun _ => False) := by
  refine z_enter (by decide +kernel) (Nat.le_of_ble_eq_true rfl) ?_
  intro p e s m args below meth c ls hx hb hret hml hown hts hlocks htab hnm hK hH hl
  subst hH
  have hAn : ∀ q, s.heap.size ≤ q → zTw t s.heap q := fun _ h => Or.inr h
  have hTA : ∀ q, zTA t q → zTw t s.heap q := fun _ h => Or.inl h
  have hS : va_S (zTw t s.heap) s.heap s.heap [] := va_S.rf
  have hl : lv_has ls 6 [(0, .ref t.1), (1, .int (iI a1)), (2, .int (iI a2)), (3, .int (iI a3)), (4, .int (iI a4))] := hl
  have hrd := hT.2.2.2.2.2.2.2.2.2.2.2
  have hev := hT.2.2.2.2.2.2.2.2.2.2.1
  have hwR := hT.2.2.2.2.2.2.1
  obtain ⟨hD, hV, hL, hB, hVd, hLk, hClk, hDoc, hBr, hVer, hLnk, hNew, hFr⟩ := hI
  refine lv_iload_n hx hb dX4_linkDocument_0 rfl (lv_at hl 1 rfl) ?_
  refine z_callp (vx_runS (As := [.int (iI a1)]) (rest := []) ⟨hx, hb, hml, hown, hts⟩ (tc_isPerson l (p_ := a1) (by first | with_reducible assumption | omega | exact ⟨by omega, by omega⟩ | omega)) (va_cwS 1 hts (lw_S q2392 q2393 q49 q2394) rfl rfl rfl hn_X4_isPerson ⟨Nat.le_of_ble_eq_true rfl, Nat.le_of_ble_eq_true rfl⟩) (z_preS hK hS (zN_le hAn hS)) rfl rfl hl.1 rfl (lv_room (Nat.le_of_ble_eq_true rfl)) dX4_linkDocument_1 ⟨Nat.le_of_ble_eq_true rfl, Nat.le_of_ble_eq_true rfl⟩) hS (zN_le hAn hS) rfl rfl (fun locs hS => ?_)
  refine z_join (pc2 := 28) (nL := 6) (lv := [(0, .ref t.1), (1, .int (iI a1)), (2, .int (iI a2)), (3, .int (iI a3)), (4, .int (iI a4))]) (st2 := [.int (iI (bI ((tw_isPerson a1) && ((tw_isDocument w a2) && (tw_isDocument w a3)))))]) hS (fun J_1 => ?_) (fun locs ls hS hl => ?_)
  · refine z_ifb_eq (b := tw_isPerson a1) (tgt := 27) hx hb dX4_linkDocument_4 (by decide) (fun c_2 => ?_) (fun c_2 => ?_)
    · refine lv_iconst (v := iI 0) hx hb dX4_linkDocument_27 rfl ?_
      refine z_top (x := 0) (y := bI ((tw_isPerson a1) && ((tw_isDocument w a2) && (tw_isDocument w a3)))) (by simp [bI, c_2]) ?_
      exact J_1 _ ls hS (lv_sub hl [0, 1, 2, 3, 4] rfl)
    · refine lv_aload_n hx hb dX4_linkDocument_7 rfl (lv_at hl 0 rfl) ?_
      refine lv_iload_n hx hb dX4_linkDocument_8 rfl (lv_at hl 2 rfl) ?_
      refine z_callp (vx_runV (As := [.int (iI a2)]) (rest := []) ⟨hx, hb, hml, hown, hts⟩ (tc_isDocument l hT (d := a2) (by first | with_reducible assumption | omega | exact ⟨by omega, by omega⟩ | omega) (by first | with_reducible assumption | omega | exact ⟨by omega, by omega⟩ | omega)) (cwV 1 hts (lw_V q2412 q2414 qs16 q49 q2415) rfl rfl rfl hd_X4_isDocument ⟨Nat.le_of_ble_eq_true rfl, Nat.le_of_ble_eq_true rfl⟩) (z_preV hK hS (zN_le hAn hS) hT.1 rfl rfl) rfl rfl hl.1 rfl (lv_room (Nat.le_of_ble_eq_true rfl)) dX4_linkDocument_9 ⟨Nat.le_of_ble_eq_true rfl, Nat.le_of_ble_eq_true rfl⟩) hS (zN_le hAn hS) rfl rfl (fun locs hS => ?_)
      refine z_ifb_eq (b := tw_isDocument w a2) (tgt := 27) hx hb dX4_linkDocument_12 (by decide) (fun c_3 => ?_) (fun c_3 => ?_)
      · refine lv_iconst (v := iI 0) hx hb dX4_linkDocument_27 rfl ?_
        refine z_top (x := 0) (y := bI ((tw_isPerson a1) && ((tw_isDocument w a2) && (tw_isDocument w a3)))) (by simp [bI, c_2, c_3]) ?_
        exact J_1 _ ls hS (lv_sub hl [0, 1, 2, 3, 4] rfl)
      · refine lv_aload_n hx hb dX4_linkDocument_15 rfl (lv_at hl 0 rfl) ?_
        refine lv_iload_n hx hb dX4_linkDocument_16 rfl (lv_at hl 3 rfl) ?_
        refine z_callp (vx_runV (As := [.int (iI a3)]) (rest := []) ⟨hx, hb, hml, hown, hts⟩ (tc_isDocument l hT (d := a3) (by first | with_reducible assumption | omega | exact ⟨by omega, by omega⟩ | omega) (by first | with_reducible assumption | omega | exact ⟨by omega, by omega⟩ | omega)) (cwV 1 hts (lw_V q2412 q2414 qs16 q49 q2415) rfl rfl rfl hd_X4_isDocument ⟨Nat.le_of_ble_eq_true rfl, Nat.le_of_ble_eq_true rfl⟩) (z_preV hK hS (zN_le hAn hS) hT.1 rfl rfl) rfl rfl hl.1 rfl (lv_room (Nat.le_of_ble_eq_true rfl)) dX4_linkDocument_17 ⟨Nat.le_of_ble_eq_true rfl, Nat.le_of_ble_eq_true rfl⟩) hS (zN_le hAn hS) rfl rfl (fun locs hS => ?_)
        refine z_ifb_eq (b := tw_isDocument w a3) (tgt := 27) hx hb dX4_linkDocument_20 (by decide) (fun c_4 => ?_) (fun c_4 => ?_)
        · refine lv_iconst (v := iI 0) hx hb dX4_linkDocument_27 rfl ?_
          refine z_top (x := 0) (y := bI ((tw_isPerson a1) && ((tw_isDocument w a2) && (tw_isDocument w a3)))) (by simp [bI, c_2, c_3, c_4]) ?_
          exact J_1 _ ls hS (lv_sub hl [0, 1, 2, 3, 4] rfl)
        · refine lv_iconst (v := iI 1) hx hb dX4_linkDocument_23 rfl ?_
          refine lv_goto (tgt := 28) hx hb dX4_linkDocument_24 (by decide) ?_
          refine z_top (x := 1) (y := bI ((tw_isPerson a1) && ((tw_isDocument w a2) && (tw_isDocument w a3)))) (by simp [bI, c_2, c_3, c_4]) ?_
          exact J_1 _ ls hS (lv_sub hl [0, 1, 2, 3, 4] rfl)
  · refine lv_istore (lv' := [(5, .int (iI (bI ((tw_isPerson a1) && ((tw_isDocument w a2) && (tw_isDocument w a3)))))), (0, .ref t.1), (1, .int (iI a1)), (2, .int (iI a2)), (3, .int (iI a3)), (4, .int (iI a4))]) hx hb dX4_linkDocument_28 hl (by decide) rfl (fun ls hl => ?_)
    refine lv_aload_n hx hb dX4_linkDocument_30 rfl (lv_at hl 1 rfl) ?_
    refine lv_iload hx hb dX4_linkDocument_31 (lv_at hl 0 rfl) ?_
    refine lv_iload hx hb dX4_linkDocument_33 (lv_at hl 5 rfl) ?_
    refine lv_iconst (v := iI 1) hx hb dX4_linkDocument_35 rfl ?_
    refine lv_iconst (v := iI 2) hx hb dX4_linkDocument_36 rfl ?_
    refine z_callp (vx_runS (As := [.int (iI a4), .int (iI 1), .int (iI 2)]) (rest := [.int (iI (bI ((tw_isPerson a1) && ((tw_isDocument w a2) && (tw_isDocument w a3))))), .ref t.1]) ⟨hx, hb, hml, hown, hts⟩ (tc_lies l (v := a4) (low := 1) (high := 2) (by first | with_reducible assumption | omega | exact ⟨by omega, by omega⟩ | omega) (by first | with_reducible assumption | omega | exact ⟨by omega, by omega⟩ | omega) (by first | with_reducible assumption | omega | exact ⟨by omega, by omega⟩ | omega)) (va_cwS 3 hts (lw_S q2365 q2366 q49 q2367) rfl rfl rfl hn_X4_lies ⟨Nat.le_of_ble_eq_true rfl, Nat.le_of_ble_eq_true rfl⟩) (z_preS hK hS (zN_le hAn hS)) rfl rfl hl.1 rfl (lv_room (Nat.le_of_ble_eq_true rfl)) dX4_linkDocument_37 ⟨Nat.le_of_ble_eq_true rfl, Nat.le_of_ble_eq_true rfl⟩) hS (zN_le hAn hS) rfl rfl (fun locs hS => ?_)
    refine lv_iload hx hb dX4_linkDocument_40 (lv_at hl 0 rfl) ?_
    refine z_join (pc2 := 70) (nL := 6) (lv := [(5, .int (iI (bI ((tw_isPerson a1) && ((tw_isDocument w a2) && (tw_isDocument w a3)))))), (0, .ref t.1), (1, .int (iI a1)), (2, .int (iI a2)), (3, .int (iI a3)), (4, .int (iI a4))]) (st2 := [.int (iI (bI (((tw_isPerson a1) && ((tw_isDocument w a2) && (tw_isDocument w a3))) && ((tw_writes w a1 a2) && (decide (w 4 < 24)))))), .int (iI (bI (tw_lies a4 1 2))), .int (iI (bI ((tw_isPerson a1) && ((tw_isDocument w a2) && (tw_isDocument w a3))))), .ref t.1]) hS (fun J_5 => ?_) (fun locs ls hS hl => ?_)
    · refine z_ifb_eq (b := (tw_isPerson a1) && ((tw_isDocument w a2) && (tw_isDocument w a3))) (tgt := 69) hx hb dX4_linkDocument_42 (by decide) (fun c_6 => ?_) (fun c_6 => ?_)
      · refine lv_iconst (v := iI 0) hx hb dX4_linkDocument_69 rfl ?_
        refine z_top (x := 0) (y := bI (((tw_isPerson a1) && ((tw_isDocument w a2) && (tw_isDocument w a3))) && ((tw_writes w a1 a2) && (decide (w 4 < 24))))) (by simp [bI, c_6]) ?_
        exact J_5 _ ls hS (lv_sub hl [0, 1, 2, 3, 4, 5] rfl)
      · obtain ⟨hp, hd, hd2⟩ := tw_are2d c_6
        refine lv_aload_n hx hb dX4_linkDocument_45 rfl (lv_at hl 1 rfl) ?_
        refine lv_iload_n hx hb dX4_linkDocument_46 rfl (lv_at hl 2 rfl) ?_
        refine lv_iload_n hx hb dX4_linkDocument_47 rfl (lv_at hl 3 rfl) ?_
        refine z_callp (vx_runV (As := [.int (iI a1), .int (iI a2)]) (rest := [.int (iI (bI (tw_lies a4 1 2))), .int (iI (bI ((tw_isPerson a1) && ((tw_isDocument w a2) && (tw_isDocument w a3))))), .ref t.1]) ⟨hx, hb, hml, hown, hts⟩ (tc_writes l hT (p_ := a1) (d := a2) (by first | with_reducible assumption | omega | exact ⟨by omega, by omega⟩ | omega) (by first | with_reducible assumption | omega | exact ⟨by omega, by omega⟩ | omega)) (cwV 2 hts (lw_V q2428 q2430 qs19 q49 q2431) rfl rfl rfl hd_X4_writes ⟨Nat.le_of_ble_eq_true rfl, Nat.le_of_ble_eq_true rfl⟩) (z_preV hK hS (zN_le hAn hS) hT.1 rfl rfl) rfl rfl hl.1 rfl (lv_room (Nat.le_of_ble_eq_true rfl)) dX4_linkDocument_48 ⟨Nat.le_of_ble_eq_true rfl, Nat.le_of_ble_eq_true rfl⟩) hS (zN_le hAn hS) rfl rfl (fun locs hS => ?_)
        refine z_ifb_eq (b := tw_writes w a1 a2) (tgt := 69) hx hb dX4_linkDocument_51 (by decide) (fun c_7 => ?_) (fun c_7 => ?_)
        · refine lv_iconst (v := iI 0) hx hb dX4_linkDocument_69 rfl ?_
          refine z_top (x := 0) (y := bI (((tw_isPerson a1) && ((tw_isDocument w a2) && (tw_isDocument w a3))) && ((tw_writes w a1 a2) && (decide (w 4 < 24))))) (by simp [bI, c_6, c_7]) ?_
          exact J_5 _ ls hS (lv_sub hl [0, 1, 2, 3, 4, 5] rfl)
        · refine lv_aload_n hx hb dX4_linkDocument_54 rfl (lv_at hl 1 rfl) ?_
          refine z_get (k := 0) hx hb hts in_X4 hown hK hT.1 rfl (by decide) q2331 rfl (v := .ref t.2.1) rfl dX4_linkDocument_55 ?_
          refine lv_iconst (v := iI 4) hx hb dX4_linkDocument_58 rfl ?_
          refine z_ildZ (i := 4) (f := w) hx hb hK hT.2.1 ⟨by omega, by omega⟩ (by decide) dX4_linkDocument_59 ?_
          have r_8 : inR (w 4) := hT.2.2.2.2.2.2.1 4
          refine lv_bipush (v := iI 24) hx hb dX4_linkDocument_60 (by decide) ?_
          refine z_icmp_ge (x := w 4) (y := 24) (tgt := 69) hx hb (by first | with_reducible assumption | omega | exact ⟨by omega, by omega⟩) (by decide) dX4_linkDocument_62 (by decide) (fun c_9 => ?_) (fun c_9 => ?_)
          · refine lv_iconst (v := iI 0) hx hb dX4_linkDocument_69 rfl ?_
            refine z_top (x := 0) (y := bI (((tw_isPerson a1) && ((tw_isDocument w a2) && (tw_isDocument w a3))) && ((tw_writes w a1 a2) && (decide (w 4 < 24))))) (by simp [bI, c_6, c_7, c_9]) ?_
            exact J_5 _ ls hS (lv_sub hl [0, 1, 2, 3, 4, 5] rfl)
          · refine lv_iconst (v := iI 1) hx hb dX4_linkDocument_65 rfl ?_
            refine lv_goto (tgt := 70) hx hb dX4_linkDocument_66 (by decide) ?_
            refine z_top (x := 1) (y := bI (((tw_isPerson a1) && ((tw_isDocument w a2) && (tw_isDocument w a3))) && ((tw_writes w a1 a2) && (decide (w 4 < 24))))) (by simp [bI, c_6, c_7, c_9]) ?_
            exact J_5 _ ls hS (lv_sub hl [0, 1, 2, 3, 4, 5] rfl)
    · refine z_callm (v := .int (iI (bI (((tw_isPerson a1) && ((tw_isDocument w a2) && (tw_isDocument w a3))) && ((tw_lies a4 1 2) && (((tw_isPerson a1) && ((tw_isDocument w a2) && (tw_isDocument w a3))) && ((tw_writes w a1 a2) && (decide (w 4 < 24))))))))) (P := (fun H1 => zT G t w kp lg hr ev rd (tw_ok3 ((tw_isPerson a1) && ((tw_isDocument w a2) && (tw_isDocument w a3))) (tw_lies a4 1 2) (((tw_isPerson a1) && ((tw_isDocument w a2) && (tw_isDocument w a3))) && ((tw_writes w a1 a2) && (decide (w 4 < 24))))) H1)) (vx_runV (As := [.int (iI (bI ((tw_isPerson a1) && ((tw_isDocument w a2) && (tw_isDocument w a3))))), .int (iI (bI (tw_lies a4 1 2))), .int (iI (bI (((tw_isPerson a1) && ((tw_isDocument w a2) && (tw_isDocument w a3))) && ((tw_writes w a1 a2) && (decide (w 4 < 24))))))]) (rest := []) ⟨hx, hb, hml, hown, hts⟩ (tc_ok_2 l hT (ba := (tw_isPerson a1) && ((tw_isDocument w a2) && (tw_isDocument w a3))) (bb := tw_lies a4 1 2) (bc := ((tw_isPerson a1) && ((tw_isDocument w a2) && (tw_isDocument w a3))) && ((tw_writes w a1 a2) && (decide (w 4 < 24))))) (cwV 3 hts (lw_V q2372 q2374 qs12 q49 q2375) rfl rfl rfl hd_X4_ok_2 ⟨Nat.le_of_ble_eq_true rfl, Nat.le_of_ble_eq_true rfl⟩) (z_preV hK hS (zTw_le hTA hAn hS) hT.1 rfl rfl) rfl rfl hl.1 rfl (lv_room (Nat.le_of_ble_eq_true rfl)) dX4_linkDocument_70 ⟨Nat.le_of_ble_eq_true rfl, Nat.le_of_ble_eq_true rfl⟩) hS (zTw_le hTA hAn hS) rfl rfl (fun H locs hT hS => ?_)
      refine z_ifb_ne (b := ((tw_isPerson a1) && ((tw_isDocument w a2) && (tw_isDocument w a3))) && ((tw_lies a4 1 2) && (((tw_isPerson a1) && ((tw_isDocument w a2) && (tw_isDocument w a3))) && ((tw_writes w a1 a2) && (decide (w 4 < 24)))))) (tgt := 78) hx hb dX4_linkDocument_73 (by decide) (fun c_10 => ?_) (fun c_10 => ?_)
      · have hc := c_10
        obtain ⟨c_are, -⟩ := Bool.and_eq_true_iff.mp hc
        obtain ⟨hp, hd, hd2⟩ := tw_are2d c_are
        simp only [Bool.and_eq_true, Bool.or_eq_true, decide_eq_true_eq, Bool.not_eq_eq_eq_not, Bool.not_true, decide_eq_false_iff_not, Bool.not_false] at hc
        refine lv_aload_n hx hb dX4_linkDocument_78 rfl (lv_at hl 1 rfl) ?_
        refine lv_bipush (v := iI 14) hx hb dX4_linkDocument_79 (by decide) ?_
        refine lv_iload_n hx hb dX4_linkDocument_81 rfl (lv_at hl 2 rfl) ?_
        refine lv_iload_n hx hb dX4_linkDocument_82 rfl (lv_at hl 3 rfl) ?_
        refine lv_iload_n hx hb dX4_linkDocument_83 rfl (lv_at hl 4 rfl) ?_
        refine lv_iload hx hb dX4_linkDocument_84 (lv_at hl 5 rfl) ?_
        refine lv_iconst (v := iI 0) hx hb dX4_linkDocument_86 rfl ?_
        refine z_callmv (P := (fun H1 => zT G t w kp (kL rd 0 ev lg 14 a1 a2 a3 a4 0) (kH rd 0 ev hr (w 0)) (kE rd 0 ev) rd (tw_ok3 ((tw_isPerson a1) && ((tw_isDocument w a2) && (tw_isDocument w a3))) (tw_lies a4 1 2) (((tw_isPerson a1) && ((tw_isDocument w a2) && (tw_isDocument w a3))) && ((tw_writes w a1 a2) && (decide (w 4 < 24))))) H1)) (vx_runV (As := [.int (iI 14), .int (iI a1), .int (iI a2), .int (iI a3), .int (iI a4), .int (iI 0)]) (rest := []) ⟨hx, hb, hml, hown, hts⟩ (tc_keep l hT (k0 := 14) (a1 := a1) (a2 := a2) (a3 := a3) (a4 := a4) (a5 := 0) (by first | with_reducible assumption | omega | exact ⟨by omega, by omega⟩ | omega) (by first | with_reducible assumption | omega | exact ⟨by omega, by omega⟩ | omega) (by first | with_reducible assumption | omega | exact ⟨by omega, by omega⟩ | omega) (by first | with_reducible assumption | omega | exact ⟨by omega, by omega⟩ | omega) (by first | with_reducible assumption | omega | exact ⟨by omega, by omega⟩ | omega) (by first | with_reducible assumption | omega | exact ⟨by omega, by omega⟩ | omega) (by first | with_reducible assumption | omega | exact ⟨by omega, by omega⟩ | omega)) (cwV 6 hts (lw_V q2376 q2378 qs13 q49 q2379) rfl rfl rfl hd_X4_keep ⟨Nat.le_of_ble_eq_true rfl, Nat.le_of_ble_eq_true rfl⟩) (z_preV hK hS (zTw_le hTA hAn hS) hT.1 rfl rfl) rfl rfl hl.1 rfl (lv_room (Nat.le_of_ble_eq_true rfl)) dX4_linkDocument_87 ⟨Nat.le_of_ble_eq_true rfl, Nat.le_of_ble_eq_true rfl⟩) hS (zTw_le hTA hAn hS) rfl rfl (fun H locs hT hS => ?_)
        refine lv_aload_n hx hb dX4_linkDocument_90 rfl (lv_at hl 1 rfl) ?_
        refine lv_iload_n hx hb dX4_linkDocument_91 rfl (lv_at hl 3 rfl) ?_
        refine lv_iload hx hb dX4_linkDocument_92 (lv_at hl 5 rfl) ?_
        refine lv_iload_n hx hb dX4_linkDocument_94 rfl (lv_at hl 4 rfl) ?_
        refine z_callm (v := .int (iI (w 4))) (P := (fun H1 => zT G t (tw_link w a2 a4 a3) kp (kL rd 0 ev lg 14 a1 a2 a3 a4 0) (kH rd 0 ev hr (w 0)) (kE rd 0 ev) rd (tw_ok3 ((tw_isPerson a1) && ((tw_isDocument w a2) && (tw_isDocument w a3))) (tw_lies a4 1 2) (((tw_isPerson a1) && ((tw_isDocument w a2) && (tw_isDocument w a3))) && ((tw_writes w a1 a2) && (decide (w 4 < 24))))) H1)) (vx_runV (As := [.int (iI a2), .int (iI a4), .int (iI a3)]) (rest := []) ⟨hx, hb, hml, hown, hts⟩ (tc_link l hT (fr := a2) (kd := a4) (tg := a3) (by first | with_reducible assumption | omega | exact ⟨by omega, by omega⟩ | omega) (by first | with_reducible assumption | omega | exact ⟨by omega, by omega⟩ | omega) (by first | with_reducible assumption | omega | exact ⟨by omega, by omega⟩ | omega) (by first | with_reducible assumption | omega | exact ⟨by omega, by omega⟩ | omega)) (cwV 3 hts (lw_V q2517 q2519 qs32 q49 q2520) rfl rfl rfl hd_X4_link ⟨Nat.le_of_ble_eq_true rfl, Nat.le_of_ble_eq_true rfl⟩) (z_preV hK hS (zTw_le hTA hAn hS) hT.1 rfl rfl) rfl rfl hl.1 rfl (lv_room (Nat.le_of_ble_eq_true rfl)) dX4_linkDocument_95 ⟨Nat.le_of_ble_eq_true rfl, Nat.le_of_ble_eq_true rfl⟩) hS (zTw_le hTA hAn hS) rfl rfl (fun H locs hT hS => ?_)
        exact z_iret hx hb hret rfl hlocks hS (by have hc : tC_linkDocument w a1 a2 a3 a4 = 0 := (by unfold tC_linkDocument; simp only [tw_ok3_0]; first | assumption | (simp_all; done)); exact z_okend hc (tw_link_0 hL) hT) (Nat.le_of_ble_eq_true rfl) (Nat.le_of_ble_eq_true rfl) dX4_linkDocument_98
      · refine lv_iconst (v := iI 0) hx hb dX4_linkDocument_76 rfl ?_
        exact z_iret hx hb hret rfl hlocks hS (by have hc : ¬ tC_linkDocument w a1 a2 a3 a4 = 0 := (by unfold tC_linkDocument; simp only [tw_ok3_0]; first | (simp_all; done) | assumption); exact z_noend hc hT) (Nat.le_of_ble_eq_true rfl) (Nat.le_of_ble_eq_true rfl) dX4_linkDocument_77
def tw_uf (w : Int → Int) (a1 a2 : Int) : Int := if (tw_isPerson a1 && tw_isLink w a2) = true then w (801 + 3 * a2) else 0
/-- a run of the row shifted down by three -/
def tw_sh (w : Int → Int) (base : Int) (n : Nat) : Int → Int := fun k => if base ≤ k ∧ k < base + n then w (k + 3) else w k
theorem tw_sh_o {w : Int → Int} {base j : Int} {n : Nat} (h : j < base ∨ base + n ≤ j) : tw_sh w base n j = w j := by
  unfold tw_sh
  rw [if_neg (by omega)]
theorem tw_sh_s (w : Int → Int) (base : Int) (n : Nat) : zup (tw_sh w base n) (base + n) (w (base + n + 3)) = tw_sh w base (n + 1) := by
  funext k
  unfold zup tw_sh
  by_cases h : k = base + n
  · rw [if_pos h, if_pos (by omega), h]
  · rw [if_neg h]
    by_cases h2 : base ≤ k ∧ k < base + n
    · rw [if_pos h2, if_pos (by omega)]
    · rw [if_neg h2, if_neg (by omega)]
theorem tw_sh0 (w : Int → Int) (base : Int) : tw_sh w base 0 = w := by
  funext k
  unfold tw_sh
  rw [if_neg (by omega)]
def tC_unlink (w : Int → Int) (a1 a2 : Int) : Int := tw_ok3 ((tw_isPerson a1) && (tw_isLink w a2)) (((tw_isPerson a1) && (tw_isLink w a2)) && (tw_writes w a1 (tw_uf w a1 a2))) true
def tW_unlink (w : Int → Int) (a1 a2 : Int) : Int → Int := zup (tw_sh w (801 + 3 * a2) (3 * (w 4 - 1 - a2)).toNat) 4 (w 4 - 1)
def tA_unlink (w : Int → Int) (a1 a2 : Int) : Int := tw_uf w a1 a2
theorem hn_X4_unlink : yX4_unlink.cls ≠ "java/lang/invoke/MethodHandle" ∧ yX4_unlink.cls ≠ "java/lang/invoke/VarHandle" ∧ (parseMethodDescriptor yX4_unlink.desc).map (fun d => d.parameters.length) = some 2 := by decide +kernel
theorem hd_X4_unlink : yX4_unlink.cls = "CheckoutDeskModel" ∧ yX4_unlink.cls ≠ "java/lang/invoke/MethodHandle" ∧ yX4_unlink.cls ≠ "java/lang/invoke/VarHandle" ∧ (parseMethodDescriptor yX4_unlink.desc).map (fun d => d.parameters.length) = some 2 := ⟨rfl, hn_X4_unlink⟩
abbrev rm_X4_unlink : Room := { frames := 4, cells := 0, slots := 0, locals := 80 }
set_option maxHeartbeats 1000000 in
theorem tc_unlink (l : Launch) {G : zG} {t : zTau} {w kp lg hr : Int → Int} {ev rd th : Int} {H0 : Heap} (hT : zT G t w kp lg hr ev rd th H0) {a1 a2 : Int} (ha1 : inR a1) (ha2 : inR a2) {n_ : Int} (hI : tInv n_ w) (hn_ : n_ < 2000) (hev2 : rd = 0 → ev < 2000) : zM l yX4_unlink (ws_ yX4_unlink cX4_unlink 6 (some .int)) rm_X4_unlink G (zTw t H0) [.ref t.1, .int (iI a1), .int (iI a2)] H0 (fun r H1 => r = some (.int (iI (kA (tC_unlink w a1 a2) (tA_unlink w a1 a2)))) ∧ zT G t (kW (tC_unlink w a1 a2) w (tW_unlink w a1 a2)) kp (kL rd (tC_unlink w a1 a2) ev lg 15 a1 a2 0 0 0) (kH rd (tC_unlink w a1 a2) ev hr (tW_unlink w a1 a2 0)) (kE rd (tC_unlink w a1 a2) ev) rd (tC_unlink w a1 a2) H1) (fun _ => False) := by
  refine z_enter (by decide +kernel) (Nat.le_of_ble_eq_true rfl) ?_
  intro p e s m args below meth c ls hx hb hret hml hown hts hlocks htab hnm hK hH hl
  subst hH
  have hAn : ∀ q, s.heap.size ≤ q → zTw t s.heap q := fun _ h => Or.inr h
  have hTA : ∀ q, zTA t q → zTw t s.heap q := fun _ h => Or.inl h
  have hS : va_S (zTw t s.heap) s.heap s.heap [] := va_S.rf
  have hl : lv_has ls 6 [(0, .ref t.1), (1, .int (iI a1)), (2, .int (iI a2))] := hl
  have hrd := hT.2.2.2.2.2.2.2.2.2.2.2
  have hev := hT.2.2.2.2.2.2.2.2.2.2.1
  have hwR := hT.2.2.2.2.2.2.1
  obtain ⟨hD, hV, hL, hB, hVd, hLk, hClk, hDoc, hBr, hVer, hLnk, hNew, hFr⟩ := hI
  refine lv_iload_n hx hb dX4_unlink_0 rfl (lv_at hl 1 rfl) ?_
  refine z_callp (vx_runS (As := [.int (iI a1)]) (rest := []) ⟨hx, hb, hml, hown, hts⟩ (tc_isPerson l (p_ := a1) (by first | with_reducible assumption | omega | exact ⟨by omega, by omega⟩ | omega)) (va_cwS 1 hts (lw_S q2392 q2393 q49 q2394) rfl rfl rfl hn_X4_isPerson ⟨Nat.le_of_ble_eq_true rfl, Nat.le_of_ble_eq_true rfl⟩) (z_preS hK hS (zN_le hAn hS)) rfl rfl hl.1 rfl (lv_room (Nat.le_of_ble_eq_true rfl)) dX4_unlink_1 ⟨Nat.le_of_ble_eq_true rfl, Nat.le_of_ble_eq_true rfl⟩) hS (zN_le hAn hS) rfl rfl (fun locs hS => ?_)
  refine z_join (pc2 := 20) (nL := 6) (lv := [(0, .ref t.1), (1, .int (iI a1)), (2, .int (iI a2))]) (st2 := [.int (iI (bI ((tw_isPerson a1) && (tw_isLink w a2))))]) hS (fun J_1 => ?_) (fun locs ls hS hl => ?_)
  · refine z_ifb_eq (b := tw_isPerson a1) (tgt := 19) hx hb dX4_unlink_4 (by decide) (fun c_2 => ?_) (fun c_2 => ?_)
    · refine lv_iconst (v := iI 0) hx hb dX4_unlink_19 rfl ?_
      refine z_top (x := 0) (y := bI ((tw_isPerson a1) && (tw_isLink w a2))) (by simp [bI, c_2]) ?_
      exact J_1 _ ls hS (lv_sub hl [0, 1, 2] rfl)
    · refine lv_aload_n hx hb dX4_unlink_7 rfl (lv_at hl 0 rfl) ?_
      refine lv_iload_n hx hb dX4_unlink_8 rfl (lv_at hl 2 rfl) ?_
      refine z_callp (vx_runV (As := [.int (iI a2)]) (rest := []) ⟨hx, hb, hml, hown, hts⟩ (tc_isLink l hT (k := a2) (by first | with_reducible assumption | omega | exact ⟨by omega, by omega⟩ | omega) (by first | with_reducible assumption | omega | exact ⟨by omega, by omega⟩ | omega)) (cwV 1 hts (lw_V q2529 q2531 qs33 q49 q2532) rfl rfl rfl hd_X4_isLink ⟨Nat.le_of_ble_eq_true rfl, Nat.le_of_ble_eq_true rfl⟩) (z_preV hK hS (zN_le hAn hS) hT.1 rfl rfl) rfl rfl hl.1 rfl (lv_room (Nat.le_of_ble_eq_true rfl)) dX4_unlink_9 ⟨Nat.le_of_ble_eq_true rfl, Nat.le_of_ble_eq_true rfl⟩) hS (zN_le hAn hS) rfl rfl (fun locs hS => ?_)
      refine z_ifb_eq (b := tw_isLink w a2) (tgt := 19) hx hb dX4_unlink_12 (by decide) (fun c_3 => ?_) (fun c_3 => ?_)
      · refine lv_iconst (v := iI 0) hx hb dX4_unlink_19 rfl ?_
        refine z_top (x := 0) (y := bI ((tw_isPerson a1) && (tw_isLink w a2))) (by simp [bI, c_2, c_3]) ?_
        exact J_1 _ ls hS (lv_sub hl [0, 1, 2] rfl)
      · refine lv_iconst (v := iI 1) hx hb dX4_unlink_15 rfl ?_
        refine lv_goto (tgt := 20) hx hb dX4_unlink_16 (by decide) ?_
        refine z_top (x := 1) (y := bI ((tw_isPerson a1) && (tw_isLink w a2))) (by simp [bI, c_2, c_3]) ?_
        exact J_1 _ ls hS (lv_sub hl [0, 1, 2] rfl)
  · refine lv_istore_n (lv' := [(3, .int (iI (bI ((tw_isPerson a1) && (tw_isLink w a2))))), (0, .ref t.1), (1, .int (iI a1)), (2, .int (iI a2))]) hx hb dX4_unlink_20 rfl hl (by decide) rfl (fun ls hl => ?_)
    refine lv_iload_n hx hb dX4_unlink_21 rfl (lv_at hl 0 rfl) ?_
    refine z_join (pc2 := 43) (nL := 6) (lv := [(3, .int (iI (bI ((tw_isPerson a1) && (tw_isLink w a2))))), (0, .ref t.1), (1, .int (iI a1)), (2, .int (iI a2))]) (st2 := [.int (iI (tw_uf w a1 a2))]) hS (fun J_4 => ?_) (fun locs ls hS hl => ?_)
    · refine z_ifb_eq (b := (tw_isPerson a1) && (tw_isLink w a2)) (tgt := 42) hx hb dX4_unlink_22 (by decide) (fun c_5 => ?_) (fun c_5 => ?_)
      · refine lv_iconst (v := iI 0) hx hb dX4_unlink_42 rfl ?_
        refine z_top (x := 0) (y := tw_uf w a1 a2) (by simp [tw_uf, c_5]) ?_
        exact J_4 _ ls hS (lv_sub hl [0, 1, 2, 3] rfl)
      · obtain ⟨hp, hk⟩ := tw_are2k c_5
        have hlk := hLnk _ hk.1 hk.2
        refine lv_aload_n hx hb dX4_unlink_25 rfl (lv_at hl 1 rfl) ?_
        refine z_get (k := 0) hx hb hts in_X4 hown hK hT.1 rfl (by decide) q2331 rfl (v := .ref t.2.1) rfl dX4_unlink_26 ?_
        refine lv_sipush (v := iI 801) hx hb dX4_unlink_29 (by decide) ?_
        refine lv_iconst (v := iI 3) hx hb dX4_unlink_32 rfl ?_
        refine lv_iload_n hx hb dX4_unlink_33 rfl (lv_at hl 3 rfl) ?_
        refine z_imul (x := 3) (y := a2) hx hb dX4_unlink_34 ?_
        refine z_iadd (x := 801) (y := 3 * a2) hx hb dX4_unlink_35 ?_
        refine lv_iconst (v := iI 0) hx hb dX4_unlink_36 rfl ?_
        refine z_iadd0 hx hb dX4_unlink_37 ?_
        refine z_ildZ (i := 801 + 3 * a2) (f := w) hx hb hK hT.2.1 ⟨by omega, by omega⟩ (by decide) dX4_unlink_38 ?_
        have r_6 : inR (w (801 + 3 * a2)) := hT.2.2.2.2.2.2.1 (801 + 3 * a2)
        refine lv_goto (tgt := 43) hx hb dX4_unlink_39 (by decide) ?_
        refine z_top (x := w (801 + 3 * a2)) (y := tw_uf w a1 a2) (by simp [tw_uf, c_5]) ?_
        exact J_4 _ ls hS (lv_sub hl [0, 1, 2, 3] rfl)
    · refine lv_istore (lv' := [(4, .int (iI (tw_uf w a1 a2))), (3, .int (iI (bI ((tw_isPerson a1) && (tw_isLink w a2))))), (0, .ref t.1), (1, .int (iI a1)), (2, .int (iI a2))]) hx hb dX4_unlink_43 hl (by decide) rfl (fun ls hl => ?_)
      refine lv_aload_n hx hb dX4_unlink_45 rfl (lv_at hl 2 rfl) ?_
      refine lv_iload_n hx hb dX4_unlink_46 rfl (lv_at hl 1 rfl) ?_
      refine lv_iload_n hx hb dX4_unlink_47 rfl (lv_at hl 1 rfl) ?_
      refine z_join (pc2 := 66) (nL := 6) (lv := [(4, .int (iI (tw_uf w a1 a2))), (3, .int (iI (bI ((tw_isPerson a1) && (tw_isLink w a2))))), (0, .ref t.1), (1, .int (iI a1)), (2, .int (iI a2))]) (st2 := [.int (iI (bI (((tw_isPerson a1) && (tw_isLink w a2)) && (tw_writes w a1 (tw_uf w a1 a2))))), .int (iI (bI ((tw_isPerson a1) && (tw_isLink w a2)))), .ref t.1]) hS (fun J_7 => ?_) (fun locs ls hS hl => ?_)
      · refine z_ifb_eq (b := (tw_isPerson a1) && (tw_isLink w a2)) (tgt := 65) hx hb dX4_unlink_48 (by decide) (fun c_8 => ?_) (fun c_8 => ?_)
        · refine lv_iconst (v := iI 0) hx hb dX4_unlink_65 rfl ?_
          refine z_top (x := 0) (y := bI (((tw_isPerson a1) && (tw_isLink w a2)) && (tw_writes w a1 (tw_uf w a1 a2)))) (by simp [bI, c_8]) ?_
          exact J_7 _ ls hS (lv_sub hl [0, 1, 2, 3, 4] rfl)
        · obtain ⟨hp, hk⟩ := tw_are2k c_8
          have hlk := hLnk _ hk.1 hk.2
          have huf : tw_uf w a1 a2 = w (801 + 3 * a2) := if_pos c_8
          rw [← huf] at hlk
          refine lv_aload_n hx hb dX4_unlink_51 rfl (lv_at hl 2 rfl) ?_
          refine lv_iload_n hx hb dX4_unlink_52 rfl (lv_at hl 3 rfl) ?_
          refine lv_iload hx hb dX4_unlink_53 (lv_at hl 0 rfl) ?_
          refine z_callp (vx_runV (As := [.int (iI a1), .int (iI (tw_uf w a1 a2))]) (rest := [.int (iI (bI ((tw_isPerson a1) && (tw_isLink w a2)))), .ref t.1]) ⟨hx, hb, hml, hown, hts⟩ (tc_writes l hT (p_ := a1) (d := tw_uf w a1 a2) (by first | with_reducible assumption | omega | exact ⟨by omega, by omega⟩ | omega) (by first | with_reducible assumption | omega | exact ⟨by omega, by omega⟩ | omega)) (cwV 2 hts (lw_V q2428 q2430 qs19 q49 q2431) rfl rfl rfl hd_X4_writes ⟨Nat.le_of_ble_eq_true rfl, Nat.le_of_ble_eq_true rfl⟩) (z_preV hK hS (zN_le hAn hS) hT.1 rfl rfl) rfl rfl hl.1 rfl (lv_room (Nat.le_of_ble_eq_true rfl)) dX4_unlink_55 ⟨Nat.le_of_ble_eq_true rfl, Nat.le_of_ble_eq_true rfl⟩) hS (zN_le hAn hS) rfl rfl (fun locs hS => ?_)
          refine z_ifb_eq (b := tw_writes w a1 (tw_uf w a1 a2)) (tgt := 65) hx hb dX4_unlink_58 (by decide) (fun c_9 => ?_) (fun c_9 => ?_)
          · refine lv_iconst (v := iI 0) hx hb dX4_unlink_65 rfl ?_
            refine z_top (x := 0) (y := bI (((tw_isPerson a1) && (tw_isLink w a2)) && (tw_writes w a1 (tw_uf w a1 a2)))) (by simp [bI, c_8, c_9]) ?_
            exact J_7 _ ls hS (lv_sub hl [0, 1, 2, 3, 4] rfl)
          · refine lv_iconst (v := iI 1) hx hb dX4_unlink_61 rfl ?_
            refine lv_goto (tgt := 66) hx hb dX4_unlink_62 (by decide) ?_
            refine z_top (x := 1) (y := bI (((tw_isPerson a1) && (tw_isLink w a2)) && (tw_writes w a1 (tw_uf w a1 a2)))) (by simp [bI, c_8, c_9]) ?_
            exact J_7 _ ls hS (lv_sub hl [0, 1, 2, 3, 4] rfl)
      · refine z_callm (v := .int (iI (bI (((tw_isPerson a1) && (tw_isLink w a2)) && (((tw_isPerson a1) && (tw_isLink w a2)) && (tw_writes w a1 (tw_uf w a1 a2))))))) (P := (fun H1 => zT G t w kp lg hr ev rd (tw_ok3 ((tw_isPerson a1) && (tw_isLink w a2)) (((tw_isPerson a1) && (tw_isLink w a2)) && (tw_writes w a1 (tw_uf w a1 a2))) true) H1)) (vx_runV (As := [.int (iI (bI ((tw_isPerson a1) && (tw_isLink w a2)))), .int (iI (bI (((tw_isPerson a1) && (tw_isLink w a2)) && (tw_writes w a1 (tw_uf w a1 a2)))))]) (rest := []) ⟨hx, hb, hml, hown, hts⟩ (tc_ok l hT (ba := (tw_isPerson a1) && (tw_isLink w a2)) (bb := ((tw_isPerson a1) && (tw_isLink w a2)) && (tw_writes w a1 (tw_uf w a1 a2)))) (cwV 2 hts (lw_V q2368 q2370 qs11 q49 q2371) rfl rfl rfl hd_X4_ok ⟨Nat.le_of_ble_eq_true rfl, Nat.le_of_ble_eq_true rfl⟩) (z_preV hK hS (zTw_le hTA hAn hS) hT.1 rfl rfl) rfl rfl hl.1 rfl (lv_room (Nat.le_of_ble_eq_true rfl)) dX4_unlink_66 ⟨Nat.le_of_ble_eq_true rfl, Nat.le_of_ble_eq_true rfl⟩) hS (zTw_le hTA hAn hS) rfl rfl (fun H locs hT hS => ?_)
        refine z_ifb_ne (b := ((tw_isPerson a1) && (tw_isLink w a2)) && (((tw_isPerson a1) && (tw_isLink w a2)) && (tw_writes w a1 (tw_uf w a1 a2)))) (tgt := 74) hx hb dX4_unlink_69 (by decide) (fun c_10 => ?_) (fun c_10 => ?_)
        · have hc := c_10
          obtain ⟨c_are, -⟩ := Bool.and_eq_true_iff.mp hc
          obtain ⟨hp, hk⟩ := tw_are2k c_are
          have hlk := hLnk _ hk.1 hk.2
          have huf : tw_uf w a1 a2 = w (801 + 3 * a2) := if_pos c_are
          rw [← huf] at hlk
          refine lv_sipush (v := iI 801) hx hb dX4_unlink_74 (by decide) ?_
          refine lv_iconst (v := iI 3) hx hb dX4_unlink_77 rfl ?_
          refine lv_iload_n hx hb dX4_unlink_78 rfl (lv_at hl 4 rfl) ?_
          refine z_imul (x := 3) (y := a2) hx hb dX4_unlink_79 ?_
          refine z_iadd (x := 801) (y := 3 * a2) hx hb dX4_unlink_80 ?_
          refine lv_istore (lv' := [(5, .int (iI (801 + 3 * a2))), (4, .int (iI (tw_uf w a1 a2))), (3, .int (iI (bI ((tw_isPerson a1) && (tw_isLink w a2))))), (0, .ref t.1), (1, .int (iI a1)), (2, .int (iI a2))]) hx hb dX4_unlink_81 hl (by decide) rfl (fun ls hl => ?_)
          refine z_loopH (A := zTw t s.heap) (H0 := s.heap) (nL := 6) (hd := 83) (fun i_11 : Nat => [(5, .int (iI (801 + 3 * a2 + ((i_11 : Nat) : Int)))), (4, .int (iI (tw_uf w a1 a2))), (3, .int (iI (bI ((tw_isPerson a1) && (tw_isLink w a2))))), (0, .ref t.1), (1, .int (iI a1)), (2, .int (iI a2))]) (fun (i_11 : Nat) (H : Heap) => (i_11 : Int) ≤ 3 * (w 4 - 1 - a2) ∧ zT G t (tw_sh w (801 + 3 * a2) i_11) kp lg hr ev rd (tw_ok3 ((tw_isPerson a1) && (tw_isLink w a2)) (((tw_isPerson a1) && (tw_isLink w a2)) && (tw_writes w a1 (tw_uf w a1 a2))) true) H) (fun _ => 0) (fun _ => 0) (fun i_11 : Nat => (3 * (w 4 - 1 - a2) : Int).toNat - i_11) (fun i_11 H locs hi_11 hS ih_12 ls hl => ?_) 0 _ _ ?_ hS ls (z_lvren (lv_sub hl [0, 1, 2, 3, 4, 5] rfl) (by simp [lv_pick]))
          · have hl : lv_has ls 6 [(5, .int (iI (801 + 3 * a2 + ((i_11 : Nat) : Int)))), (4, .int (iI (tw_uf w a1 a2))), (3, .int (iI (bI ((tw_isPerson a1) && (tw_isLink w a2))))), (0, .ref t.1), (1, .int (iI a1)), (2, .int (iI a2))] := hl
            obtain ⟨hi_11, hT⟩ : (i_11 : Int) ≤ 3 * (w 4 - 1 - a2) ∧ zT G t (tw_sh w (801 + 3 * a2) i_11) kp lg hr ev rd (tw_ok3 ((tw_isPerson a1) && (tw_isLink w a2)) (((tw_isPerson a1) && (tw_isLink w a2)) && (tw_writes w a1 (tw_uf w a1 a2))) true) H := hi_11
            refine lv_iload hx hb dX4_unlink_83 (lv_at hl 0 rfl) ?_
            refine lv_sipush (v := iI 801) hx hb dX4_unlink_85 (by decide) ?_
            refine lv_iconst (v := iI 3) hx hb dX4_unlink_88 rfl ?_
            refine lv_aload_n hx hb dX4_unlink_89 rfl (lv_at hl 3 rfl) ?_
            refine z_get (k := 0) hx hb hts in_X4 hown hK hT.1 rfl (by decide) q2331 rfl (v := .ref t.2.1) rfl dX4_unlink_90 ?_
            refine lv_iconst (v := iI 4) hx hb dX4_unlink_93 rfl ?_
            refine z_ildZ (i := 4) (f := tw_sh w (801 + 3 * a2) i_11) hx hb hK hT.2.1 ⟨by omega, by omega⟩ (by decide) dX4_unlink_94 ?_
            refine z_top (x := (tw_sh w (801 + 3 * a2) i_11) 4) (y := w 4) (tw_sh_o (by omega)) ?_
            have r_13 : inR (w 4) := (by first | exact hwR _ | exact hT.2.2.2.2.2.2.1 4)
            refine lv_iconst (v := iI 1) hx hb dX4_unlink_95 rfl ?_
            refine z_isub (x := w 4) (y := 1) hx hb dX4_unlink_96 ?_
            refine z_imul (x := 3) (y := w 4 - 1) hx hb dX4_unlink_97 ?_
            refine z_iadd (x := 801) (y := 3 * (w 4 - 1)) hx hb dX4_unlink_98 ?_
            refine z_icmp_ge (x := 801 + 3 * a2 + ((i_11 : Nat) : Int)) (y := 801 + 3 * (w 4 - 1)) (tgt := 124) hx hb (by first | with_reducible assumption | omega | exact ⟨by omega, by omega⟩) (by first | with_reducible assumption | omega | exact ⟨by omega, by omega⟩) dX4_unlink_99 (by decide) (fun c_14 => ?_) (fun c_14 => ?_)
            · obtain rfl : i_11 = (3 * (w 4 - 1 - a2)).toNat := by omega
              refine lv_aload_n hx hb dX4_unlink_124 rfl (lv_at hl 3 rfl) ?_
              refine z_get (k := 0) hx hb hts in_X4 hown hK hT.1 rfl (by decide) q2331 rfl (v := .ref t.2.1) rfl dX4_unlink_125 ?_
              refine lv_iconst (v := iI 4) hx hb dX4_unlink_128 rfl ?_
              refine lv_dup2_11 hx hb dX4_unlink_129 rfl rfl ?_
              refine z_ildZ (i := 4) (f := tw_sh w (801 + 3 * a2) (3 * (w 4 - 1 - a2)).toNat) hx hb hK hT.2.1 ⟨by omega, by omega⟩ (by decide) dX4_unlink_130 ?_
              refine z_top (x := (tw_sh w (801 + 3 * a2) (3 * (w 4 - 1 - a2)).toNat) 4) (y := w 4) (tw_sh_o (by omega)) ?_
              have r_15 : inR (w 4) := (by first | exact hwR _ | exact hT.2.2.2.2.2.2.1 4)
              refine lv_iconst (v := iI 1) hx hb dX4_unlink_131 rfl ?_
              refine z_isub (x := w 4) (y := 1) hx hb dX4_unlink_132 ?_
              refine zt_st (i := 4) (x := w 4 - 1) hx hb hK hT hTA hS ⟨by omega, by omega⟩ (by first | with_reducible assumption | omega | exact ⟨by omega, by omega⟩) dX4_unlink_133 (fun H locs hT hS => ?_)
              refine lv_aload_n hx hb dX4_unlink_134 rfl (lv_at hl 3 rfl) ?_
              refine lv_bipush (v := iI 15) hx hb dX4_unlink_135 (by decide) ?_
              refine lv_iload_n hx hb dX4_unlink_137 rfl (lv_at hl 4 rfl) ?_
              refine lv_iload_n hx hb dX4_unlink_138 rfl (lv_at hl 5 rfl) ?_
              refine lv_iconst (v := iI 0) hx hb dX4_unlink_139 rfl ?_
              refine lv_iconst (v := iI 0) hx hb dX4_unlink_140 rfl ?_
              refine lv_iconst (v := iI 0) hx hb dX4_unlink_141 rfl ?_
              refine z_callmv (P := (fun H1 => zT G t (zup (tw_sh w (801 + 3 * a2) (3 * (w 4 - 1 - a2)).toNat) 4 (w 4 - 1)) kp (kL rd 0 ev lg 15 a1 a2 0 0 0) (kH rd 0 ev hr ((zup (tw_sh w (801 + 3 * a2) (3 * (w 4 - 1 - a2)).toNat) 4 (w 4 - 1)) 0)) (kE rd 0 ev) rd (tw_ok3 ((tw_isPerson a1) && (tw_isLink w a2)) (((tw_isPerson a1) && (tw_isLink w a2)) && (tw_writes w a1 (tw_uf w a1 a2))) true) H1)) (vx_runV (As := [.int (iI 15), .int (iI a1), .int (iI a2), .int (iI 0), .int (iI 0), .int (iI 0)]) (rest := []) ⟨hx, hb, hml, hown, hts⟩ (tc_keep l hT (k0 := 15) (a1 := a1) (a2 := a2) (a3 := 0) (a4 := 0) (a5 := 0) (by first | with_reducible assumption | omega | exact ⟨by omega, by omega⟩ | omega) (by first | with_reducible assumption | omega | exact ⟨by omega, by omega⟩ | omega) (by first | with_reducible assumption | omega | exact ⟨by omega, by omega⟩ | omega) (by first | with_reducible assumption | omega | exact ⟨by omega, by omega⟩ | omega) (by first | with_reducible assumption | omega | exact ⟨by omega, by omega⟩ | omega) (by first | with_reducible assumption | omega | exact ⟨by omega, by omega⟩ | omega) (by first | with_reducible assumption | omega | exact ⟨by omega, by omega⟩ | omega)) (cwV 6 hts (lw_V q2376 q2378 qs13 q49 q2379) rfl rfl rfl hd_X4_keep ⟨Nat.le_of_ble_eq_true rfl, Nat.le_of_ble_eq_true rfl⟩) (z_preV hK hS (zTw_le hTA hAn hS) hT.1 rfl rfl) rfl rfl hl.1 rfl (lv_room (Nat.le_of_ble_eq_true rfl)) dX4_unlink_142 ⟨Nat.le_of_ble_eq_true rfl, Nat.le_of_ble_eq_true rfl⟩) hS (zTw_le hTA hAn hS) rfl rfl (fun H locs hT hS => ?_)
              refine lv_iload hx hb dX4_unlink_145 (lv_at hl 1 rfl) ?_
              exact z_iret hx hb hret rfl hlocks hS (by have hc : tC_unlink w a1 a2 = 0 := (by unfold tC_unlink; simp only [tw_ok3_0]; first | assumption | (simp_all; done)); exact z_okend hc rfl hT) (Nat.le_of_ble_eq_true rfl) (Nat.le_of_ble_eq_true rfl) dX4_unlink_147
            · refine lv_aload_n hx hb dX4_unlink_102 rfl (lv_at hl 3 rfl) ?_
              refine z_get (k := 0) hx hb hts in_X4 hown hK hT.1 rfl (by decide) q2331 rfl (v := .ref t.2.1) rfl dX4_unlink_103 ?_
              refine lv_iload hx hb dX4_unlink_106 (lv_at hl 0 rfl) ?_
              refine lv_aload_n hx hb dX4_unlink_108 rfl (lv_at hl 3 rfl) ?_
              refine z_get (k := 0) hx hb hts in_X4 hown hK hT.1 rfl (by decide) q2331 rfl (v := .ref t.2.1) rfl dX4_unlink_109 ?_
              refine lv_iload hx hb dX4_unlink_112 (lv_at hl 0 rfl) ?_
              refine lv_iconst (v := iI 3) hx hb dX4_unlink_114 rfl ?_
              refine z_iadd (x := 801 + 3 * a2 + ((i_11 : Nat) : Int)) (y := 3) hx hb dX4_unlink_115 ?_
              refine z_ildZ (i := 801 + 3 * a2 + ((i_11 : Nat) : Int) + 3) (f := tw_sh w (801 + 3 * a2) i_11) hx hb hK hT.2.1 ⟨by omega, by omega⟩ (by decide) dX4_unlink_116 ?_
              refine z_top (x := (tw_sh w (801 + 3 * a2) i_11) (801 + 3 * a2 + ((i_11 : Nat) : Int) + 3)) (y := w (801 + 3 * a2 + ((i_11 : Nat) : Int) + 3)) (tw_sh_o (by omega)) ?_
              have r_16 : inR (w (801 + 3 * a2 + ((i_11 : Nat) : Int) + 3)) := (by first | exact hwR _ | exact hT.2.2.2.2.2.2.1 (801 + 3 * a2 + ((i_11 : Nat) : Int) + 3))
              refine zt_st (i := 801 + 3 * a2 + ((i_11 : Nat) : Int)) (x := w (801 + 3 * a2 + ((i_11 : Nat) : Int) + 3)) hx hb hK hT hTA hS ⟨by omega, by omega⟩ (by first | with_reducible assumption | omega | exact ⟨by omega, by omega⟩) dX4_unlink_117 (fun H locs hT hS => ?_)
              refine lv_iinc (v := iI (801 + 3 * a2 + ((i_11 : Nat) : Int) + 1)) (lv' := [(5, .int (iI (801 + 3 * a2 + ((i_11 : Nat) : Int) + 1))), (4, .int (iI (tw_uf w a1 a2))), (3, .int (iI (bI ((tw_isPerson a1) && (tw_isLink w a2))))), (0, .ref t.1), (1, .int (iI a1)), (2, .int (iI a2))]) hx hb dX4_unlink_118 hl (k := 0) rfl (iI_add _ _) (by decide) rfl (fun ls hl => ?_)
              refine lv_goto (tgt := 83) hx hb dX4_unlink_121 (by decide) ?_
              exact ih_12 (i_11 + 1) _ _ ⟨by omega, (by rw [← tw_sh_s]; exact hT)⟩ hS (by omega) ls (z_lvren (lv_sub hl [0, 1, 2, 3, 4, 5] rfl) (by simp [lv_pick, Int.add_assoc]))
          · exact ⟨by omega, (by rw [tw_sh0]; exact hT)⟩
        · refine lv_iconst (v := iI 0) hx hb dX4_unlink_72 rfl ?_
          exact z_iret hx hb hret rfl hlocks hS (by have hc : ¬ tC_unlink w a1 a2 = 0 := (by unfold tC_unlink; simp only [tw_ok3_0]; first | (simp_all; done) | assumption); exact z_noend hc hT) (Nat.le_of_ble_eq_true rfl) (Nat.le_of_ble_eq_true rfl) dX4_unlink_73
