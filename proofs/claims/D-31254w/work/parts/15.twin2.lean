set_option maxRecDepth 100000
/-- the newest of a branch's versions among the first n; -1: none -/
def tw_nw (w : Int → Int) (d b : Int) : Nat → Int
  | 0 => -1
  | n + 1 => if (tw_isOn w n d b && (decide (tw_nw w d b n = -1) || tw_isBehind w n (tw_nw w d b n))) = true then (n : Int) else tw_nw w d b n
theorem tw_nw_R (w : Int → Int) (d b : Int) : ∀ n : Nat, -1 ≤ tw_nw w d b n ∧ tw_nw w d b n < n
  | 0 => by unfold tw_nw; omega
  | n + 1 => by
    have h := tw_nw_R w d b n
    unfold tw_nw
    split <;> constructor <;> omega
def tw_newestOf (w : Int → Int) (d b : Int) : Int := tw_nw w d b (w 3).toNat
theorem tw_newestOf_R {w : Int → Int} {d b : Int} (h : tV w) : -1 ≤ tw_newestOf w d b ∧ tw_newestOf w d b < w 3 := by
  have := tw_nw_R w d b (w 3).toNat
  unfold tw_newestOf
  omega
theorem tw_newestOf_inR {w : Int → Int} {d b : Int} (h : tV w) : inR (tw_newestOf w d b) := by
  have := tw_newestOf_R (d := d) (b := b) h
  exact ⟨by omega, by omega⟩
theorem hn_X4_newestOf : yX4_newestOf.cls ≠ "java/lang/invoke/MethodHandle" ∧ yX4_newestOf.cls ≠ "java/lang/invoke/VarHandle" ∧ (parseMethodDescriptor yX4_newestOf.desc).map (fun d => d.parameters.length) = some 2 := by decide +kernel
theorem hd_X4_newestOf : yX4_newestOf.cls = "CheckoutDeskModel" ∧ yX4_newestOf.cls ≠ "java/lang/invoke/MethodHandle" ∧ yX4_newestOf.cls ≠ "java/lang/invoke/VarHandle" ∧ (parseMethodDescriptor yX4_newestOf.desc).map (fun d => d.parameters.length) = some 2 := ⟨rfl, hn_X4_newestOf⟩
abbrev rm_X4_newestOf : Room := { frames := 3, cells := 0, slots := 0, locals := 60 }
set_option maxHeartbeats 4000000 in
theorem tc_newestOf (l : Launch) {G : zG} {t : zTau} {w kp lg hr : Int → Int} {ev rd th : Int} {H0 : Heap} (hT : zT G t w kp lg hr ev rd th H0) {d b : Int} (hd : inR d) (hb : inR b) (hV : tV w) : zM l yX4_newestOf (ws_ yX4_newestOf cX4_newestOf 5 (some .int)) rm_X4_newestOf G (zN H0) [.ref t.1, .int (iI d), .int (iI b)] H0 (fun r H1 => r = some (.int (iI (tw_newestOf w d b))) ∧ H1 = H0) (fun _ => False) := by
  refine z_enter (by decide +kernel) (Nat.le_of_ble_eq_true rfl) ?_
  intro p e s m args below meth c ls hx hb hr hml hown hts hlocks htab hnm hK hH hl
  subst hH
  have hAn : ∀ q, s.heap.size ≤ q → zN s.heap q := fun _ h => h
  have hS : va_S (zN s.heap) s.heap s.heap [] := va_S.rf
  have hl : lv_has ls 5 [(0, .ref t.1), (1, .int (iI d)), (2, .int (iI b))] := hl
  refine lv_iconst (v := iI (-1)) hx hb dX4_newestOf_0 rfl ?_
  refine lv_istore_n (lv' := [(3, .int (iI (-1))), (0, .ref t.1), (1, .int (iI d)), (2, .int (iI b))]) hx hb dX4_newestOf_1 rfl hl (by decide) rfl (fun ls hl => ?_)
  refine lv_iconst (v := iI 0) hx hb dX4_newestOf_2 rfl ?_
  refine lv_istore (lv' := [(4, .int (iI 0)), (3, .int (iI (-1))), (0, .ref t.1), (1, .int (iI d)), (2, .int (iI b))]) hx hb dX4_newestOf_3 hl (by decide) rfl (fun ls hl => ?_)
  refine z_loop (H0 := s.heap) (nL := 5) (hd := 5) (fun i_1 : Nat => [(3, .int (iI (tw_nw w d b i_1))), (4, .int (iI ((i_1 : Nat) : Int))), (0, .ref t.1), (1, .int (iI d)), (2, .int (iI b))]) (fun i_1 : Nat => (i_1 : Int) ≤ w 3) (fun i_1 : Nat => (w 3).toNat - i_1) (fun i_1 locs hi_1 hS ih_2 ls hl => ?_) 0 _ ?_ hS ls (z_lvren (lv_sub hl [1, 0, 2, 3, 4] rfl) (by rfl))
  · have hl : lv_has ls 5 [(3, .int (iI (tw_nw w d b i_1))), (4, .int (iI ((i_1 : Nat) : Int))), (0, .ref t.1), (1, .int (iI d)), (2, .int (iI b))] := hl
    have hi_1 : (i_1 : Int) ≤ w 3 := hi_1
    have hnw := tw_nw_R w d b i_1
    refine lv_iload hx hb dX4_newestOf_5 (lv_at hl 1 rfl) ?_
    refine lv_aload_n hx hb dX4_newestOf_7 rfl (lv_at hl 2 rfl) ?_
    refine z_get (k := 0) hx hb hts in_X4 hown hK hT.1 rfl (by decide) q2331 rfl (v := .ref t.2.1) rfl dX4_newestOf_8 ?_
    refine lv_iconst (v := iI 3) hx hb dX4_newestOf_11 rfl ?_
    refine z_ildZ (i := 3) (f := w) hx hb hK hT.2.1 ⟨by omega, by omega⟩ (by decide) dX4_newestOf_12 ?_
    have r_3 : inR (w 3) := hT.2.2.2.2.2.2.1 3
    refine z_icmp_ge (x := ((i_1 : Nat) : Int)) (y := w 3) (tgt := 55) hx hb (by first | assumption | exact ⟨by omega, by omega⟩) (by first | assumption | exact ⟨by omega, by omega⟩) dX4_newestOf_13 (by decide) (fun c_4 => ?_) (fun c_4 => ?_)
    · refine lv_iload_n hx hb dX4_newestOf_55 rfl (lv_at hl 0 rfl) ?_
      exact z_iret hx hb hr rfl hlocks hS ⟨by unfold tw_newestOf; rw [show (w 3).toNat = i_1 by omega], rfl⟩ (Nat.le_of_ble_eq_true rfl) (Nat.le_of_ble_eq_true rfl) dX4_newestOf_56
    · refine lv_aload_n hx hb dX4_newestOf_16 rfl (lv_at hl 2 rfl) ?_
      refine lv_iload hx hb dX4_newestOf_17 (lv_at hl 1 rfl) ?_
      refine lv_iload_n hx hb dX4_newestOf_19 rfl (lv_at hl 3 rfl) ?_
      refine lv_iload_n hx hb dX4_newestOf_20 rfl (lv_at hl 4 rfl) ?_
      refine z_callp (vx_runV (As := [.int (iI ((i_1 : Nat) : Int)), .int (iI d), .int (iI b)]) (rest := []) ⟨hx, hb, hml, hown, hts⟩ (tc_isOn l hT (v := ((i_1 : Nat) : Int)) (d := d) (b := b) (by first | assumption | exact ⟨by omega, by omega⟩ | omega) (by first | assumption | exact ⟨by omega, by omega⟩ | omega) (by first | assumption | exact ⟨by omega, by omega⟩ | omega)) (cwV 3 hts (lw_V q2445 q2447 qs23 q49 q2448) rfl rfl rfl hd_X4_isOn ⟨Nat.le_of_ble_eq_true rfl, Nat.le_of_ble_eq_true rfl⟩) (z_preV hK hS (zN_le hAn hS) hT.1 rfl rfl) rfl rfl hl.1 rfl (lv_room (Nat.le_of_ble_eq_true rfl)) dX4_newestOf_21 ⟨Nat.le_of_ble_eq_true rfl, Nat.le_of_ble_eq_true rfl⟩) hS (zN_le hAn hS) rfl rfl (fun locs hS => ?_)
      refine z_join (pc2 := 48) (nL := 5) (lv := [(3, .int (iI (tw_nw w d b i_1))), (4, .int (iI ((i_1 : Nat) : Int))), (0, .ref t.1), (1, .int (iI d)), (2, .int (iI b))]) (st2 := [.int (iI (tw_nw w d b (i_1 + 1)))]) hS (fun J_5 => ?_) (fun locs ls hS hl => ?_)
      · refine z_ifb_eq (b := tw_isOn w ((i_1 : Nat) : Int) d b) (tgt := 47) hx hb dX4_newestOf_24 (by decide) (fun c_6 => ?_) (fun c_6 => ?_)
        · refine lv_iload_n hx hb dX4_newestOf_47 rfl (lv_at hl 0 rfl) ?_
          refine z_top (x := tw_nw w d b i_1) (y := tw_nw w d b (i_1 + 1)) (by simp [tw_nw, c_6]) ?_
          exact J_5 _ ls hS (lv_sub hl [0, 1, 2, 3, 4] rfl)
        · refine lv_iload_n hx hb dX4_newestOf_27 rfl (lv_at hl 0 rfl) ?_
          refine lv_iconst (v := iI (-1)) hx hb dX4_newestOf_28 rfl ?_
          refine z_icmp_eq (x := tw_nw w d b i_1) (y := (-1)) (tgt := 42) hx hb (by first | assumption | exact ⟨by omega, by omega⟩) (by decide) dX4_newestOf_29 (by decide) (fun c_7 => ?_) (fun c_7 => ?_)
          · refine lv_iload hx hb dX4_newestOf_42 (lv_at hl 1 rfl) ?_
            refine lv_goto (tgt := 48) hx hb dX4_newestOf_44 (by decide) ?_
            refine z_top (x := ((i_1 : Nat) : Int)) (y := tw_nw w d b (i_1 + 1)) (by simp [tw_nw, c_6, c_7]) ?_
            exact J_5 _ ls hS (lv_sub hl [0, 1, 2, 3, 4] rfl)
          · refine lv_aload_n hx hb dX4_newestOf_32 rfl (lv_at hl 2 rfl) ?_
            refine lv_iload hx hb dX4_newestOf_33 (lv_at hl 1 rfl) ?_
            refine lv_iload_n hx hb dX4_newestOf_35 rfl (lv_at hl 0 rfl) ?_
            refine z_callp (vx_runV (As := [.int (iI ((i_1 : Nat) : Int)), .int (iI (tw_nw w d b i_1))]) (rest := []) ⟨hx, hb, hml, hown, hts⟩ (tc_isBehind l hT (a := ((i_1 : Nat) : Int)) (b := tw_nw w d b i_1) (by first | assumption | exact ⟨by omega, by omega⟩ | omega) (by first | assumption | exact ⟨by omega, by omega⟩ | omega)) (cwV 2 hts (lw_V q2449 q2451 qs24 q49 q2452) rfl rfl rfl hd_X4_isBehind ⟨Nat.le_of_ble_eq_true rfl, Nat.le_of_ble_eq_true rfl⟩) (z_preV hK hS (zN_le hAn hS) hT.1 rfl rfl) rfl rfl hl.1 rfl (lv_room (Nat.le_of_ble_eq_true rfl)) dX4_newestOf_36 ⟨Nat.le_of_ble_eq_true rfl, Nat.le_of_ble_eq_true rfl⟩) hS (zN_le hAn hS) rfl rfl (fun locs hS => ?_)
            refine z_ifb_eq (b := tw_isBehind w ((i_1 : Nat) : Int) (tw_nw w d b i_1)) (tgt := 47) hx hb dX4_newestOf_39 (by decide) (fun c_8 => ?_) (fun c_8 => ?_)
            · refine lv_iload_n hx hb dX4_newestOf_47 rfl (lv_at hl 0 rfl) ?_
              refine z_top (x := tw_nw w d b i_1) (y := tw_nw w d b (i_1 + 1)) (by simp [tw_nw, c_6, c_7, c_8]) ?_
              exact J_5 _ ls hS (lv_sub hl [0, 1, 2, 3, 4] rfl)
            · refine lv_iload hx hb dX4_newestOf_42 (lv_at hl 1 rfl) ?_
              refine lv_goto (tgt := 48) hx hb dX4_newestOf_44 (by decide) ?_
              refine z_top (x := ((i_1 : Nat) : Int)) (y := tw_nw w d b (i_1 + 1)) (by simp [tw_nw, c_6, c_7, c_8]) ?_
              exact J_5 _ ls hS (lv_sub hl [0, 1, 2, 3, 4] rfl)
      · refine lv_istore_n (lv' := [(3, .int (iI (tw_nw w d b (i_1 + 1)))), (4, .int (iI ((i_1 : Nat) : Int))), (0, .ref t.1), (1, .int (iI d)), (2, .int (iI b))]) hx hb dX4_newestOf_48 rfl hl (by decide) rfl (fun ls hl => ?_)
        refine lv_iinc (v := iI (((i_1 : Nat) : Int) + 1)) (lv' := [(4, .int (iI (((i_1 : Nat) : Int) + 1))), (3, .int (iI (tw_nw w d b (i_1 + 1)))), (0, .ref t.1), (1, .int (iI d)), (2, .int (iI b))]) hx hb dX4_newestOf_49 hl (k := 1) rfl (iI_add _ _) (by decide) rfl (fun ls hl => ?_)
        refine lv_goto (tgt := 5) hx hb dX4_newestOf_52 (by decide) ?_
        exact ih_2 (i_1 + 1) locs (by omega) hS (by omega) ls (z_lvren (lv_sub hl [1, 0, 2, 3, 4] rfl) (by first | rfl | simp))
  · exact by omega
/-- whether one of the first n branches of a document stands on a version -/
def tw_ndb (w : Int → Int) (d v : Int) (is : Bool) : Nat → Bool
  | 0 => is
  | n + 1 => tw_ndb w d v is n || (decide (w (5 + 32 * d + 8 + 8 * n) = v) || (decide (0 < w (5 + 32 * d + 8 + 8 * n + 1)) && decide (w (5 + 32 * d + 8 + 8 * n + 3) = v)))
/-- whether one of the first n links names a version -/
def tw_ndl (w : Int → Int) (v : Int) (is : Bool) : Nat → Bool
  | 0 => is
  | n + 1 => tw_ndl w v is n || (decide (w (801 + 3 * n + 1) = 0) && decide (w (801 + 3 * n + 2) = v))
def tw_isNeeded (w : Int → Int) (v : Int) : Bool :=
  tw_ndl w v (tw_ndb w (w (261 + 9 * v)) v (tw_isReleased w v || decide (tw_newestOf w (w (261 + 9 * v)) (w (261 + 9 * v + 1)) = v)) (w (5 + 32 * w (261 + 9 * v) + 1)).toNat) (w 4).toNat
theorem hn_X4_isNeeded : yX4_isNeeded.cls ≠ "java/lang/invoke/MethodHandle" ∧ yX4_isNeeded.cls ≠ "java/lang/invoke/VarHandle" ∧ (parseMethodDescriptor yX4_isNeeded.desc).map (fun d => d.parameters.length) = some 1 := by decide +kernel
theorem hd_X4_isNeeded : yX4_isNeeded.cls = "CheckoutDeskModel" ∧ yX4_isNeeded.cls ≠ "java/lang/invoke/MethodHandle" ∧ yX4_isNeeded.cls ≠ "java/lang/invoke/VarHandle" ∧ (parseMethodDescriptor yX4_isNeeded.desc).map (fun d => d.parameters.length) = some 1 := ⟨rfl, hn_X4_isNeeded⟩
abbrev rm_X4_isNeeded : Room := { frames := 4, cells := 0, slots := 0, locals := 84 }
set_option maxHeartbeats 4000000 in
theorem tc_isNeeded (l : Launch) {G : zG} {t : zTau} {w kp lg hr : Int → Int} {ev rd th : Int} {H0 : Heap} (hT : zT G t w kp lg hr ev rd th H0) {v : Int} (hv : 0 ≤ v ∧ v < w 3) (hD : tD w) (hV : tV w) (hL : tL w) (hB : tB w) (hVd : tVd w) : zM l yX4_isNeeded (ws_ yX4_isNeeded cX4_isNeeded 6 (some .boolean)) rm_X4_isNeeded G (zN H0) [.ref t.1, .int (iI v)] H0 (fun r H1 => r = some (.int (iI (bI (tw_isNeeded w v)))) ∧ H1 = H0) (fun _ => False) := by
  refine z_enter (by decide +kernel) (Nat.le_of_ble_eq_true rfl) ?_
  intro p e s m args below meth c ls hx hb hr hml hown hts hlocks htab hnm hK hH hl
  subst hH
  have hAn : ∀ q, s.heap.size ≤ q → zN s.heap q := fun _ h => h
  have hS : va_S (zN s.heap) s.heap s.heap [] := va_S.rf
  have hl : lv_has ls 6 [(0, .ref t.1), (1, .int (iI v))] := hl
  have hd8 := hVd v hv.1 hv.2
  have hb3 := hB _ hd8.1 hd8.2
  refine lv_aload_n hx hb dX4_isNeeded_0 rfl (lv_at hl 0 rfl) ?_
  refine z_get (k := 0) hx hb hts in_X4 hown hK hT.1 rfl (by decide) q2331 rfl (v := .ref t.2.1) rfl dX4_isNeeded_1 ?_
  refine lv_iload_n hx hb dX4_isNeeded_4 rfl (lv_at hl 1 rfl) ?_
  refine z_callp (vx_runS (As := [.int (iI v)]) (rest := [.ref t.2.1]) ⟨hx, hb, hml, hown, hts⟩ (tc_ver l (v := v)) (va_cwS 1 hts (lw_S q2405 q2406 q49 q2407) rfl rfl rfl hn_X4_ver ⟨Nat.le_of_ble_eq_true rfl, Nat.le_of_ble_eq_true rfl⟩) (z_preS hK hS (zN_le hAn hS)) rfl rfl hl.1 rfl (lv_room (Nat.le_of_ble_eq_true rfl)) dX4_isNeeded_5 ⟨Nat.le_of_ble_eq_true rfl, Nat.le_of_ble_eq_true rfl⟩) hS (zN_le hAn hS) rfl rfl (fun locs hS => ?_)
  refine lv_iconst (v := iI 0) hx hb dX4_isNeeded_8 rfl ?_
  refine z_iadd0 hx hb dX4_isNeeded_9 ?_
  refine z_ildZ (i := 261 + 9 * v) (f := w) hx hb hK hT.2.1 ⟨by omega, by omega⟩ (by decide) dX4_isNeeded_10 ?_
  have r_1 : inR (w (261 + 9 * v)) := hT.2.2.2.2.2.2.1 (261 + 9 * v)
  refine lv_istore_n (lv' := [(2, .int (iI (w (261 + 9 * v)))), (0, .ref t.1), (1, .int (iI v))]) hx hb dX4_isNeeded_11 rfl hl (by decide) rfl (fun ls hl => ?_)
  refine lv_aload_n hx hb dX4_isNeeded_12 rfl (lv_at hl 1 rfl) ?_
  refine lv_iload_n hx hb dX4_isNeeded_13 rfl (lv_at hl 2 rfl) ?_
  refine z_callp (vx_runV (As := [.int (iI v)]) (rest := []) ⟨hx, hb, hml, hown, hts⟩ (tc_isReleased l hT (v := v) (by first | assumption | exact ⟨by omega, by omega⟩ | omega)) (cwV 1 hts (lw_V q2485 q2487 qs28 q49 q2488) rfl rfl rfl hd_X4_isReleased ⟨Nat.le_of_ble_eq_true rfl, Nat.le_of_ble_eq_true rfl⟩) (z_preV hK hS (zN_le hAn hS) hT.1 rfl rfl) rfl rfl hl.1 rfl (lv_room (Nat.le_of_ble_eq_true rfl)) dX4_isNeeded_14 ⟨Nat.le_of_ble_eq_true rfl, Nat.le_of_ble_eq_true rfl⟩) hS (zN_le hAn hS) rfl rfl (fun locs hS => ?_)
  refine z_join (pc2 := 45) (nL := 6) (lv := [(2, .int (iI (w (261 + 9 * v)))), (0, .ref t.1), (1, .int (iI v))]) (st2 := [.int (iI (bI (tw_isReleased w v || decide (tw_newestOf w (w (261 + 9 * v)) (w (261 + 9 * v + 1)) = v))))]) hS (fun J_2 => ?_) (fun locs ls hS hl => ?_)
  · refine z_ifb_ne (b := tw_isReleased w v) (tgt := 40) hx hb dX4_isNeeded_17 (by decide) (fun c_3 => ?_) (fun c_3 => ?_)
    · refine lv_iconst (v := iI 1) hx hb dX4_isNeeded_40 rfl ?_
      refine lv_goto (tgt := 45) hx hb dX4_isNeeded_41 (by decide) ?_
      refine z_top (x := 1) (y := bI (tw_isReleased w v || decide (tw_newestOf w (w (261 + 9 * v)) (w (261 + 9 * v + 1)) = v))) (by simp [bI, c_3]) ?_
      exact J_2 _ ls hS (lv_sub hl [0, 1, 2] rfl)
    · refine lv_aload_n hx hb dX4_isNeeded_20 rfl (lv_at hl 1 rfl) ?_
      refine lv_iload_n hx hb dX4_isNeeded_21 rfl (lv_at hl 0 rfl) ?_
      refine lv_aload_n hx hb dX4_isNeeded_22 rfl (lv_at hl 1 rfl) ?_
      refine z_get (k := 0) hx hb hts in_X4 hown hK hT.1 rfl (by decide) q2331 rfl (v := .ref t.2.1) rfl dX4_isNeeded_23 ?_
      refine lv_iload_n hx hb dX4_isNeeded_26 rfl (lv_at hl 2 rfl) ?_
      refine z_callp (vx_runS (As := [.int (iI v)]) (rest := [.ref t.2.1, .int (iI (w (261 + 9 * v))), .ref t.1]) ⟨hx, hb, hml, hown, hts⟩ (tc_ver l (v := v)) (va_cwS 1 hts (lw_S q2405 q2406 q49 q2407) rfl rfl rfl hn_X4_ver ⟨Nat.le_of_ble_eq_true rfl, Nat.le_of_ble_eq_true rfl⟩) (z_preS hK hS (zN_le hAn hS)) rfl rfl hl.1 rfl (lv_room (Nat.le_of_ble_eq_true rfl)) dX4_isNeeded_27 ⟨Nat.le_of_ble_eq_true rfl, Nat.le_of_ble_eq_true rfl⟩) hS (zN_le hAn hS) rfl rfl (fun locs hS => ?_)
      refine lv_iconst (v := iI 1) hx hb dX4_isNeeded_30 rfl ?_
      refine z_iadd (x := 261 + 9 * v) (y := 1) hx hb dX4_isNeeded_31 ?_
      refine z_ildZ (i := 261 + 9 * v + 1) (f := w) hx hb hK hT.2.1 ⟨by omega, by omega⟩ (by decide) dX4_isNeeded_32 ?_
      have r_4 : inR (w (261 + 9 * v + 1)) := hT.2.2.2.2.2.2.1 (261 + 9 * v + 1)
      refine z_callp (vx_runV (As := [.int (iI (w (261 + 9 * v))), .int (iI (w (261 + 9 * v + 1)))]) (rest := []) ⟨hx, hb, hml, hown, hts⟩ (tc_newestOf l hT (d := w (261 + 9 * v)) (b := w (261 + 9 * v + 1)) (by first | assumption | exact ⟨by omega, by omega⟩ | omega) (by first | assumption | exact ⟨by omega, by omega⟩ | omega) (by first | assumption | exact ⟨by omega, by omega⟩ | omega)) (cwV 2 hts (lw_V q2441 q2443 qs22 q49 q2444) rfl rfl rfl hd_X4_newestOf ⟨Nat.le_of_ble_eq_true rfl, Nat.le_of_ble_eq_true rfl⟩) (z_preV hK hS (zN_le hAn hS) hT.1 rfl rfl) rfl rfl hl.1 rfl (lv_room (Nat.le_of_ble_eq_true rfl)) dX4_isNeeded_33 ⟨Nat.le_of_ble_eq_true rfl, Nat.le_of_ble_eq_true rfl⟩) hS (zN_le hAn hS) rfl rfl (fun locs hS => ?_)
      refine lv_iload_n hx hb dX4_isNeeded_36 rfl (lv_at hl 2 rfl) ?_
      refine z_icmp_ne (x := tw_newestOf w (w (261 + 9 * v)) (w (261 + 9 * v + 1))) (y := v) (tgt := 44) hx hb (tw_newestOf_inR (by assumption)) (by first | assumption | exact ⟨by omega, by omega⟩) dX4_isNeeded_37 (by decide) (fun c_5 => ?_) (fun c_5 => ?_)
      · refine lv_iconst (v := iI 0) hx hb dX4_isNeeded_44 rfl ?_
        refine z_top (x := 0) (y := bI (tw_isReleased w v || decide (tw_newestOf w (w (261 + 9 * v)) (w (261 + 9 * v + 1)) = v))) (by simp [bI, c_3, c_5]) ?_
        exact J_2 _ ls hS (lv_sub hl [0, 1, 2] rfl)
      · refine lv_iconst (v := iI 1) hx hb dX4_isNeeded_40 rfl ?_
        refine lv_goto (tgt := 45) hx hb dX4_isNeeded_41 (by decide) ?_
        refine z_top (x := 1) (y := bI (tw_isReleased w v || decide (tw_newestOf w (w (261 + 9 * v)) (w (261 + 9 * v + 1)) = v))) (by simp [bI, c_3, c_5]) ?_
        exact J_2 _ ls hS (lv_sub hl [0, 1, 2] rfl)
  · refine lv_istore_n (lv' := [(3, .int (iI (bI (tw_isReleased w v || decide (tw_newestOf w (w (261 + 9 * v)) (w (261 + 9 * v + 1)) = v))))), (2, .int (iI (w (261 + 9 * v)))), (0, .ref t.1), (1, .int (iI v))]) hx hb dX4_isNeeded_45 rfl hl (by decide) rfl (fun ls hl => ?_)
    refine lv_iconst (v := iI 0) hx hb dX4_isNeeded_46 rfl ?_
    refine lv_istore (lv' := [(4, .int (iI 0)), (3, .int (iI (bI (tw_isReleased w v || decide (tw_newestOf w (w (261 + 9 * v)) (w (261 + 9 * v + 1)) = v))))), (2, .int (iI (w (261 + 9 * v)))), (0, .ref t.1), (1, .int (iI v))]) hx hb dX4_isNeeded_47 hl (by decide) rfl (fun ls hl => ?_)
    refine z_loop (H0 := s.heap) (nL := 6) (hd := 49) (fun i_6 : Nat => [(3, .int (iI (bI (tw_ndb w (w (261 + 9 * v)) v (tw_isReleased w v || decide (tw_newestOf w (w (261 + 9 * v)) (w (261 + 9 * v + 1)) = v)) i_6)))), (4, .int (iI ((i_6 : Nat) : Int))), (2, .int (iI (w (261 + 9 * v)))), (0, .ref t.1), (1, .int (iI v))]) (fun i_6 : Nat => (i_6 : Int) ≤ w (5 + 32 * w (261 + 9 * v) + 1)) (fun i_6 : Nat => (w (5 + 32 * w (261 + 9 * v) + 1)).toNat - i_6) (fun i_6 locs hi_6 hS ih_7 ls hl => ?_) 0 _ ?_ hS ls (z_lvren (lv_sub hl [1, 0, 2, 3, 4] rfl) (by rfl))
    · have hl : lv_has ls 6 [(3, .int (iI (bI (tw_ndb w (w (261 + 9 * v)) v (tw_isReleased w v || decide (tw_newestOf w (w (261 + 9 * v)) (w (261 + 9 * v + 1)) = v)) i_6)))), (4, .int (iI ((i_6 : Nat) : Int))), (2, .int (iI (w (261 + 9 * v)))), (0, .ref t.1), (1, .int (iI v))] := hl
      have hi_6 : (i_6 : Int) ≤ w (5 + 32 * w (261 + 9 * v) + 1) := hi_6
      refine lv_iload hx hb dX4_isNeeded_49 (lv_at hl 1 rfl) ?_
      refine lv_aload_n hx hb dX4_isNeeded_51 rfl (lv_at hl 3 rfl) ?_
      refine z_get (k := 0) hx hb hts in_X4 hown hK hT.1 rfl (by decide) q2331 rfl (v := .ref t.2.1) rfl dX4_isNeeded_52 ?_
      refine lv_iload_n hx hb dX4_isNeeded_55 rfl (lv_at hl 2 rfl) ?_
      refine z_callp (vx_runS (As := [.int (iI (w (261 + 9 * v)))]) (rest := [.ref t.2.1, .int (iI ((i_6 : Nat) : Int))]) ⟨hx, hb, hml, hown, hts⟩ (tc_doc l (d := w (261 + 9 * v))) (va_cwS 1 hts (lw_S q2395 q2396 q49 q2397) rfl rfl rfl hn_X4_doc ⟨Nat.le_of_ble_eq_true rfl, Nat.le_of_ble_eq_true rfl⟩) (z_preS hK hS (zN_le hAn hS)) rfl rfl hl.1 rfl (lv_room (Nat.le_of_ble_eq_true rfl)) dX4_isNeeded_56 ⟨Nat.le_of_ble_eq_true rfl, Nat.le_of_ble_eq_true rfl⟩) hS (zN_le hAn hS) rfl rfl (fun locs hS => ?_)
      refine lv_iconst (v := iI 1) hx hb dX4_isNeeded_59 rfl ?_
      refine z_iadd (x := 5 + 32 * w (261 + 9 * v)) (y := 1) hx hb dX4_isNeeded_60 ?_
      refine z_ildZ (i := 5 + 32 * w (261 + 9 * v) + 1) (f := w) hx hb hK hT.2.1 ⟨by omega, by omega⟩ (by decide) dX4_isNeeded_61 ?_
      have r_8 : inR (w (5 + 32 * w (261 + 9 * v) + 1)) := hT.2.2.2.2.2.2.1 (5 + 32 * w (261 + 9 * v) + 1)
      refine z_icmp_ge (x := ((i_6 : Nat) : Int)) (y := w (5 + 32 * w (261 + 9 * v) + 1)) (tgt := 127) hx hb (by first | assumption | exact ⟨by omega, by omega⟩) (by first | assumption | exact ⟨by omega, by omega⟩) dX4_isNeeded_62 (by decide) (fun c_9 => ?_) (fun c_9 => ?_)
      · refine lv_iconst (v := iI 0) hx hb dX4_isNeeded_127 rfl ?_
        refine lv_istore (lv' := [(4, .int (iI 0)), (3, .int (iI (bI (tw_ndb w (w (261 + 9 * v)) v (tw_isReleased w v || decide (tw_newestOf w (w (261 + 9 * v)) (w (261 + 9 * v + 1)) = v)) i_6)))), (2, .int (iI (w (261 + 9 * v)))), (0, .ref t.1), (1, .int (iI v))]) hx hb dX4_isNeeded_128 hl (by decide) rfl (fun ls hl => ?_)
        refine z_loop (H0 := s.heap) (nL := 6) (hd := 130) (fun i_10 : Nat => [(3, .int (iI (bI (tw_ndl w v (tw_ndb w (w (261 + 9 * v)) v (tw_isReleased w v || decide (tw_newestOf w (w (261 + 9 * v)) (w (261 + 9 * v + 1)) = v)) (w (5 + 32 * w (261 + 9 * v) + 1)).toNat) i_10)))), (4, .int (iI ((i_10 : Nat) : Int))), (2, .int (iI (w (261 + 9 * v)))), (0, .ref t.1), (1, .int (iI v))]) (fun i_10 : Nat => (i_10 : Int) ≤ w 4) (fun i_10 : Nat => (w 4).toNat - i_10) (fun i_10 locs hi_10 hS ih_11 ls hl => ?_) 0 _ ?_ hS ls (z_lvren (lv_sub hl [1, 0, 2, 3, 4] rfl) (by rw [show (w (5 + 32 * w (261 + 9 * v) + 1)).toNat = i_6 by omega]; rfl))
        · have hl : lv_has ls 6 [(3, .int (iI (bI (tw_ndl w v (tw_ndb w (w (261 + 9 * v)) v (tw_isReleased w v || decide (tw_newestOf w (w (261 + 9 * v)) (w (261 + 9 * v + 1)) = v)) (w (5 + 32 * w (261 + 9 * v) + 1)).toNat) i_10)))), (4, .int (iI ((i_10 : Nat) : Int))), (2, .int (iI (w (261 + 9 * v)))), (0, .ref t.1), (1, .int (iI v))] := hl
          have hi_10 : (i_10 : Int) ≤ w 4 := hi_10
          refine lv_iload hx hb dX4_isNeeded_130 (lv_at hl 1 rfl) ?_
          refine lv_aload_n hx hb dX4_isNeeded_132 rfl (lv_at hl 3 rfl) ?_
          refine z_get (k := 0) hx hb hts in_X4 hown hK hT.1 rfl (by decide) q2331 rfl (v := .ref t.2.1) rfl dX4_isNeeded_133 ?_
          refine lv_iconst (v := iI 4) hx hb dX4_isNeeded_136 rfl ?_
          refine z_ildZ (i := 4) (f := w) hx hb hK hT.2.1 ⟨by omega, by omega⟩ (by decide) dX4_isNeeded_137 ?_
          have r_12 : inR (w 4) := hT.2.2.2.2.2.2.1 4
          refine z_icmp_ge (x := ((i_10 : Nat) : Int)) (y := w 4) (tgt := 192) hx hb (by first | assumption | exact ⟨by omega, by omega⟩) (by first | assumption | exact ⟨by omega, by omega⟩) dX4_isNeeded_138 (by decide) (fun c_13 => ?_) (fun c_13 => ?_)
          · refine lv_iload_n hx hb dX4_isNeeded_192 rfl (lv_at hl 0 rfl) ?_
            exact z_iret hx hb hr (z_nar _) hlocks hS ⟨by unfold tw_isNeeded; rw [show (w 4).toNat = i_10 by omega], rfl⟩ (Nat.le_of_ble_eq_true rfl) (Nat.le_of_ble_eq_true rfl) dX4_isNeeded_193
          · refine lv_sipush (v := iI 801) hx hb dX4_isNeeded_141 (by decide) ?_
            refine lv_iconst (v := iI 3) hx hb dX4_isNeeded_144 rfl ?_
            refine lv_iload hx hb dX4_isNeeded_145 (lv_at hl 1 rfl) ?_
            refine z_imul (x := 3) (y := ((i_10 : Nat) : Int)) hx hb dX4_isNeeded_147 ?_
            refine z_iadd (x := 801) (y := 3 * ((i_10 : Nat) : Int)) hx hb dX4_isNeeded_148 ?_
            refine lv_istore (lv' := [(5, .int (iI (801 + 3 * ((i_10 : Nat) : Int)))), (3, .int (iI (bI (tw_ndl w v (tw_ndb w (w (261 + 9 * v)) v (tw_isReleased w v || decide (tw_newestOf w (w (261 + 9 * v)) (w (261 + 9 * v + 1)) = v)) (w (5 + 32 * w (261 + 9 * v) + 1)).toNat) i_10)))), (4, .int (iI ((i_10 : Nat) : Int))), (2, .int (iI (w (261 + 9 * v)))), (0, .ref t.1), (1, .int (iI v))]) hx hb dX4_isNeeded_149 hl (by decide) rfl (fun ls hl => ?_)
            refine lv_iload_n hx hb dX4_isNeeded_151 rfl (lv_at hl 1 rfl) ?_
            refine z_join (pc2 := 185) (nL := 6) (lv := [(5, .int (iI (801 + 3 * ((i_10 : Nat) : Int)))), (3, .int (iI (bI (tw_ndl w v (tw_ndb w (w (261 + 9 * v)) v (tw_isReleased w v || decide (tw_newestOf w (w (261 + 9 * v)) (w (261 + 9 * v + 1)) = v)) (w (5 + 32 * w (261 + 9 * v) + 1)).toNat) i_10)))), (4, .int (iI ((i_10 : Nat) : Int))), (2, .int (iI (w (261 + 9 * v)))), (0, .ref t.1), (1, .int (iI v))]) (st2 := [.int (iI (bI (tw_ndl w v (tw_ndb w (w (261 + 9 * v)) v (tw_isReleased w v || decide (tw_newestOf w (w (261 + 9 * v)) (w (261 + 9 * v + 1)) = v)) (w (5 + 32 * w (261 + 9 * v) + 1)).toNat) (i_10 + 1))))]) hS (fun J_14 => ?_) (fun locs ls hS hl => ?_)
            · refine z_ifb_ne (b := tw_ndl w v (tw_ndb w (w (261 + 9 * v)) v (tw_isReleased w v || decide (tw_newestOf w (w (261 + 9 * v)) (w (261 + 9 * v + 1)) = v)) (w (5 + 32 * w (261 + 9 * v) + 1)).toNat) i_10) (tgt := 180) hx hb dX4_isNeeded_152 (by decide) (fun c_15 => ?_) (fun c_15 => ?_)
              · refine lv_iconst (v := iI 1) hx hb dX4_isNeeded_180 rfl ?_
                refine lv_goto (tgt := 185) hx hb dX4_isNeeded_181 (by decide) ?_
                refine z_top (x := 1) (y := bI (tw_ndl w v (tw_ndb w (w (261 + 9 * v)) v (tw_isReleased w v || decide (tw_newestOf w (w (261 + 9 * v)) (w (261 + 9 * v + 1)) = v)) (w (5 + 32 * w (261 + 9 * v) + 1)).toNat) (i_10 + 1))) (by simp [bI, tw_ndl, c_15]) ?_
                exact J_14 _ ls hS (lv_sub hl [0, 1, 2, 3, 4, 5] rfl)
              · refine lv_aload_n hx hb dX4_isNeeded_155 rfl (lv_at hl 4 rfl) ?_
                refine z_get (k := 0) hx hb hts in_X4 hown hK hT.1 rfl (by decide) q2331 rfl (v := .ref t.2.1) rfl dX4_isNeeded_156 ?_
                refine lv_iload hx hb dX4_isNeeded_159 (lv_at hl 0 rfl) ?_
                refine lv_iconst (v := iI 1) hx hb dX4_isNeeded_161 rfl ?_
                refine z_iadd (x := 801 + 3 * ((i_10 : Nat) : Int)) (y := 1) hx hb dX4_isNeeded_162 ?_
                refine z_ildZ (i := 801 + 3 * ((i_10 : Nat) : Int) + 1) (f := w) hx hb hK hT.2.1 ⟨by omega, by omega⟩ (by decide) dX4_isNeeded_163 ?_
                have r_16 : inR (w (801 + 3 * ((i_10 : Nat) : Int) + 1)) := hT.2.2.2.2.2.2.1 (801 + 3 * ((i_10 : Nat) : Int) + 1)
                refine z_if_ne (x := w (801 + 3 * ((i_10 : Nat) : Int) + 1)) (tgt := 184) hx hb (by first | assumption | exact ⟨by omega, by omega⟩) dX4_isNeeded_164 (by decide) (fun c_17 => ?_) (fun c_17 => ?_)
                · refine lv_iconst (v := iI 0) hx hb dX4_isNeeded_184 rfl ?_
                  refine z_top (x := 0) (y := bI (tw_ndl w v (tw_ndb w (w (261 + 9 * v)) v (tw_isReleased w v || decide (tw_newestOf w (w (261 + 9 * v)) (w (261 + 9 * v + 1)) = v)) (w (5 + 32 * w (261 + 9 * v) + 1)).toNat) (i_10 + 1))) (by simp [bI, tw_ndl, c_15, c_17]) ?_
                  exact J_14 _ ls hS (lv_sub hl [0, 1, 2, 3, 4, 5] rfl)
                · refine lv_aload_n hx hb dX4_isNeeded_167 rfl (lv_at hl 4 rfl) ?_
                  refine z_get (k := 0) hx hb hts in_X4 hown hK hT.1 rfl (by decide) q2331 rfl (v := .ref t.2.1) rfl dX4_isNeeded_168 ?_
                  refine lv_iload hx hb dX4_isNeeded_171 (lv_at hl 0 rfl) ?_
                  refine lv_iconst (v := iI 2) hx hb dX4_isNeeded_173 rfl ?_
                  refine z_iadd (x := 801 + 3 * ((i_10 : Nat) : Int)) (y := 2) hx hb dX4_isNeeded_174 ?_
                  refine z_ildZ (i := 801 + 3 * ((i_10 : Nat) : Int) + 2) (f := w) hx hb hK hT.2.1 ⟨by omega, by omega⟩ (by decide) dX4_isNeeded_175 ?_
                  have r_18 : inR (w (801 + 3 * ((i_10 : Nat) : Int) + 2)) := hT.2.2.2.2.2.2.1 (801 + 3 * ((i_10 : Nat) : Int) + 2)
                  refine lv_iload_n hx hb dX4_isNeeded_176 rfl (lv_at hl 5 rfl) ?_
                  refine z_icmp_ne (x := w (801 + 3 * ((i_10 : Nat) : Int) + 2)) (y := v) (tgt := 184) hx hb (by first | assumption | exact ⟨by omega, by omega⟩) (by first | assumption | exact ⟨by omega, by omega⟩) dX4_isNeeded_177 (by decide) (fun c_19 => ?_) (fun c_19 => ?_)
                  · refine lv_iconst (v := iI 0) hx hb dX4_isNeeded_184 rfl ?_
                    refine z_top (x := 0) (y := bI (tw_ndl w v (tw_ndb w (w (261 + 9 * v)) v (tw_isReleased w v || decide (tw_newestOf w (w (261 + 9 * v)) (w (261 + 9 * v + 1)) = v)) (w (5 + 32 * w (261 + 9 * v) + 1)).toNat) (i_10 + 1))) (by simp [bI, tw_ndl, c_15, c_17, c_19]) ?_
                    exact J_14 _ ls hS (lv_sub hl [0, 1, 2, 3, 4, 5] rfl)
                  · refine lv_iconst (v := iI 1) hx hb dX4_isNeeded_180 rfl ?_
                    refine lv_goto (tgt := 185) hx hb dX4_isNeeded_181 (by decide) ?_
                    refine z_top (x := 1) (y := bI (tw_ndl w v (tw_ndb w (w (261 + 9 * v)) v (tw_isReleased w v || decide (tw_newestOf w (w (261 + 9 * v)) (w (261 + 9 * v + 1)) = v)) (w (5 + 32 * w (261 + 9 * v) + 1)).toNat) (i_10 + 1))) (by simp [bI, tw_ndl, c_15, c_17, c_19]) ?_
                    exact J_14 _ ls hS (lv_sub hl [0, 1, 2, 3, 4, 5] rfl)
            · refine lv_istore_n (lv' := [(3, .int (iI (bI (tw_ndl w v (tw_ndb w (w (261 + 9 * v)) v (tw_isReleased w v || decide (tw_newestOf w (w (261 + 9 * v)) (w (261 + 9 * v + 1)) = v)) (w (5 + 32 * w (261 + 9 * v) + 1)).toNat) (i_10 + 1))))), (5, .int (iI (801 + 3 * ((i_10 : Nat) : Int)))), (4, .int (iI ((i_10 : Nat) : Int))), (2, .int (iI (w (261 + 9 * v)))), (0, .ref t.1), (1, .int (iI v))]) hx hb dX4_isNeeded_185 rfl hl (by decide) rfl (fun ls hl => ?_)
              refine lv_iinc (v := iI (((i_10 : Nat) : Int) + 1)) (lv' := [(4, .int (iI (((i_10 : Nat) : Int) + 1))), (3, .int (iI (bI (tw_ndl w v (tw_ndb w (w (261 + 9 * v)) v (tw_isReleased w v || decide (tw_newestOf w (w (261 + 9 * v)) (w (261 + 9 * v + 1)) = v)) (w (5 + 32 * w (261 + 9 * v) + 1)).toNat) (i_10 + 1))))), (5, .int (iI (801 + 3 * ((i_10 : Nat) : Int)))), (2, .int (iI (w (261 + 9 * v)))), (0, .ref t.1), (1, .int (iI v))]) hx hb dX4_isNeeded_186 hl (k := 2) rfl (iI_add _ _) (by decide) rfl (fun ls hl => ?_)
              refine lv_goto (tgt := 130) hx hb dX4_isNeeded_189 (by decide) ?_
              exact ih_11 (i_10 + 1) locs (by omega) hS (by omega) ls (z_lvren (lv_sub hl [1, 0, 3, 4, 5] rfl) (by first | rfl | simp))
        · exact by omega
      · refine lv_iload_n hx hb dX4_isNeeded_65 rfl (lv_at hl 2 rfl) ?_
        refine lv_iload hx hb dX4_isNeeded_66 (lv_at hl 1 rfl) ?_
        refine z_callp (vx_runS (As := [.int (iI (w (261 + 9 * v))), .int (iI ((i_6 : Nat) : Int))]) (rest := []) ⟨hx, hb, hml, hown, hts⟩ (tc_place l (d := w (261 + 9 * v)) (b := ((i_6 : Nat) : Int))) (va_cwS 2 hts (lw_S q2398 q2399 q49 q2400) rfl rfl rfl hn_X4_place ⟨Nat.le_of_ble_eq_true rfl, Nat.le_of_ble_eq_true rfl⟩) (z_preS hK hS (zN_le hAn hS)) rfl rfl hl.1 rfl (lv_room (Nat.le_of_ble_eq_true rfl)) dX4_isNeeded_68 ⟨Nat.le_of_ble_eq_true rfl, Nat.le_of_ble_eq_true rfl⟩) hS (zN_le hAn hS) rfl rfl (fun locs hS => ?_)
        refine lv_istore (lv' := [(5, .int (iI (5 + 32 * w (261 + 9 * v) + 8 + 8 * ((i_6 : Nat) : Int)))), (3, .int (iI (bI (tw_ndb w (w (261 + 9 * v)) v (tw_isReleased w v || decide (tw_newestOf w (w (261 + 9 * v)) (w (261 + 9 * v + 1)) = v)) i_6)))), (4, .int (iI ((i_6 : Nat) : Int))), (2, .int (iI (w (261 + 9 * v)))), (0, .ref t.1), (1, .int (iI v))]) hx hb dX4_isNeeded_71 hl (by decide) rfl (fun ls hl => ?_)
        refine lv_iload_n hx hb dX4_isNeeded_73 rfl (lv_at hl 1 rfl) ?_
        refine z_join (pc2 := 120) (nL := 6) (lv := [(5, .int (iI (5 + 32 * w (261 + 9 * v) + 8 + 8 * ((i_6 : Nat) : Int)))), (3, .int (iI (bI (tw_ndb w (w (261 + 9 * v)) v (tw_isReleased w v || decide (tw_newestOf w (w (261 + 9 * v)) (w (261 + 9 * v + 1)) = v)) i_6)))), (4, .int (iI ((i_6 : Nat) : Int))), (2, .int (iI (w (261 + 9 * v)))), (0, .ref t.1), (1, .int (iI v))]) (st2 := [.int (iI (bI (tw_ndb w (w (261 + 9 * v)) v (tw_isReleased w v || decide (tw_newestOf w (w (261 + 9 * v)) (w (261 + 9 * v + 1)) = v)) (i_6 + 1))))]) hS (fun J_20 => ?_) (fun locs ls hS hl => ?_)
        · refine z_ifb_ne (b := tw_ndb w (w (261 + 9 * v)) v (tw_isReleased w v || decide (tw_newestOf w (w (261 + 9 * v)) (w (261 + 9 * v + 1)) = v)) i_6) (tgt := 115) hx hb dX4_isNeeded_74 (by decide) (fun c_21 => ?_) (fun c_21 => ?_)
          · refine lv_iconst (v := iI 1) hx hb dX4_isNeeded_115 rfl ?_
            refine lv_goto (tgt := 120) hx hb dX4_isNeeded_116 (by decide) ?_
            refine z_top (x := 1) (y := bI (tw_ndb w (w (261 + 9 * v)) v (tw_isReleased w v || decide (tw_newestOf w (w (261 + 9 * v)) (w (261 + 9 * v + 1)) = v)) (i_6 + 1))) (by simp [bI, tw_ndb, c_21]) ?_
            exact J_20 _ ls hS (lv_sub hl [0, 1, 2, 3, 4, 5] rfl)
          · refine lv_aload_n hx hb dX4_isNeeded_77 rfl (lv_at hl 4 rfl) ?_
            refine z_get (k := 0) hx hb hts in_X4 hown hK hT.1 rfl (by decide) q2331 rfl (v := .ref t.2.1) rfl dX4_isNeeded_78 ?_
            refine lv_iload hx hb dX4_isNeeded_81 (lv_at hl 0 rfl) ?_
            refine lv_iconst (v := iI 0) hx hb dX4_isNeeded_83 rfl ?_
            refine z_iadd0 hx hb dX4_isNeeded_84 ?_
            refine z_ildZ (i := 5 + 32 * w (261 + 9 * v) + 8 + 8 * ((i_6 : Nat) : Int)) (f := w) hx hb hK hT.2.1 ⟨by omega, by omega⟩ (by decide) dX4_isNeeded_85 ?_
            have r_22 : inR (w (5 + 32 * w (261 + 9 * v) + 8 + 8 * ((i_6 : Nat) : Int))) := hT.2.2.2.2.2.2.1 (5 + 32 * w (261 + 9 * v) + 8 + 8 * ((i_6 : Nat) : Int))
            refine lv_iload_n hx hb dX4_isNeeded_86 rfl (lv_at hl 5 rfl) ?_
            refine z_icmp_eq (x := w (5 + 32 * w (261 + 9 * v) + 8 + 8 * ((i_6 : Nat) : Int))) (y := v) (tgt := 115) hx hb (by first | assumption | exact ⟨by omega, by omega⟩) (by first | assumption | exact ⟨by omega, by omega⟩) dX4_isNeeded_87 (by decide) (fun c_23 => ?_) (fun c_23 => ?_)
            · refine lv_iconst (v := iI 1) hx hb dX4_isNeeded_115 rfl ?_
              refine lv_goto (tgt := 120) hx hb dX4_isNeeded_116 (by decide) ?_
              refine z_top (x := 1) (y := bI (tw_ndb w (w (261 + 9 * v)) v (tw_isReleased w v || decide (tw_newestOf w (w (261 + 9 * v)) (w (261 + 9 * v + 1)) = v)) (i_6 + 1))) (by simp [bI, tw_ndb, c_21, c_23]) ?_
              exact J_20 _ ls hS (lv_sub hl [0, 1, 2, 3, 4, 5] rfl)
            · refine lv_aload_n hx hb dX4_isNeeded_90 rfl (lv_at hl 4 rfl) ?_
              refine z_get (k := 0) hx hb hts in_X4 hown hK hT.1 rfl (by decide) q2331 rfl (v := .ref t.2.1) rfl dX4_isNeeded_91 ?_
              refine lv_iload hx hb dX4_isNeeded_94 (lv_at hl 0 rfl) ?_
              refine lv_iconst (v := iI 1) hx hb dX4_isNeeded_96 rfl ?_
              refine z_iadd (x := 5 + 32 * w (261 + 9 * v) + 8 + 8 * ((i_6 : Nat) : Int)) (y := 1) hx hb dX4_isNeeded_97 ?_
              refine z_ildZ (i := 5 + 32 * w (261 + 9 * v) + 8 + 8 * ((i_6 : Nat) : Int) + 1) (f := w) hx hb hK hT.2.1 ⟨by omega, by omega⟩ (by decide) dX4_isNeeded_98 ?_
              have r_24 : inR (w (5 + 32 * w (261 + 9 * v) + 8 + 8 * ((i_6 : Nat) : Int) + 1)) := hT.2.2.2.2.2.2.1 (5 + 32 * w (261 + 9 * v) + 8 + 8 * ((i_6 : Nat) : Int) + 1)
              refine z_if_le (x := w (5 + 32 * w (261 + 9 * v) + 8 + 8 * ((i_6 : Nat) : Int) + 1)) (tgt := 119) hx hb (by first | assumption | exact ⟨by omega, by omega⟩) dX4_isNeeded_99 (by decide) (fun c_25 => ?_) (fun c_25 => ?_)
              · refine lv_iconst (v := iI 0) hx hb dX4_isNeeded_119 rfl ?_
                refine z_top (x := 0) (y := bI (tw_ndb w (w (261 + 9 * v)) v (tw_isReleased w v || decide (tw_newestOf w (w (261 + 9 * v)) (w (261 + 9 * v + 1)) = v)) (i_6 + 1))) (by simp [bI, tw_ndb, c_21, c_23, c_25]) ?_
                exact J_20 _ ls hS (lv_sub hl [0, 1, 2, 3, 4, 5] rfl)
              · refine lv_aload_n hx hb dX4_isNeeded_102 rfl (lv_at hl 4 rfl) ?_
                refine z_get (k := 0) hx hb hts in_X4 hown hK hT.1 rfl (by decide) q2331 rfl (v := .ref t.2.1) rfl dX4_isNeeded_103 ?_
                refine lv_iload hx hb dX4_isNeeded_106 (lv_at hl 0 rfl) ?_
                refine lv_iconst (v := iI 3) hx hb dX4_isNeeded_108 rfl ?_
                refine z_iadd (x := 5 + 32 * w (261 + 9 * v) + 8 + 8 * ((i_6 : Nat) : Int)) (y := 3) hx hb dX4_isNeeded_109 ?_
                refine z_ildZ (i := 5 + 32 * w (261 + 9 * v) + 8 + 8 * ((i_6 : Nat) : Int) + 3) (f := w) hx hb hK hT.2.1 ⟨by omega, by omega⟩ (by decide) dX4_isNeeded_110 ?_
                have r_26 : inR (w (5 + 32 * w (261 + 9 * v) + 8 + 8 * ((i_6 : Nat) : Int) + 3)) := hT.2.2.2.2.2.2.1 (5 + 32 * w (261 + 9 * v) + 8 + 8 * ((i_6 : Nat) : Int) + 3)
                refine lv_iload_n hx hb dX4_isNeeded_111 rfl (lv_at hl 5 rfl) ?_
                refine z_icmp_ne (x := w (5 + 32 * w (261 + 9 * v) + 8 + 8 * ((i_6 : Nat) : Int) + 3)) (y := v) (tgt := 119) hx hb (by first | assumption | exact ⟨by omega, by omega⟩) (by first | assumption | exact ⟨by omega, by omega⟩) dX4_isNeeded_112 (by decide) (fun c_27 => ?_) (fun c_27 => ?_)
                · refine lv_iconst (v := iI 0) hx hb dX4_isNeeded_119 rfl ?_
                  refine z_top (x := 0) (y := bI (tw_ndb w (w (261 + 9 * v)) v (tw_isReleased w v || decide (tw_newestOf w (w (261 + 9 * v)) (w (261 + 9 * v + 1)) = v)) (i_6 + 1))) (by simp [bI, tw_ndb, c_21, c_23, c_25, c_27]) ?_
                  exact J_20 _ ls hS (lv_sub hl [0, 1, 2, 3, 4, 5] rfl)
                · refine lv_iconst (v := iI 1) hx hb dX4_isNeeded_115 rfl ?_
                  refine lv_goto (tgt := 120) hx hb dX4_isNeeded_116 (by decide) ?_
                  refine z_top (x := 1) (y := bI (tw_ndb w (w (261 + 9 * v)) v (tw_isReleased w v || decide (tw_newestOf w (w (261 + 9 * v)) (w (261 + 9 * v + 1)) = v)) (i_6 + 1))) (by simp [bI, tw_ndb, c_21, c_23, c_25, c_27]) ?_
                  exact J_20 _ ls hS (lv_sub hl [0, 1, 2, 3, 4, 5] rfl)
        · refine lv_istore_n (lv' := [(3, .int (iI (bI (tw_ndb w (w (261 + 9 * v)) v (tw_isReleased w v || decide (tw_newestOf w (w (261 + 9 * v)) (w (261 + 9 * v + 1)) = v)) (i_6 + 1))))), (5, .int (iI (5 + 32 * w (261 + 9 * v) + 8 + 8 * ((i_6 : Nat) : Int)))), (4, .int (iI ((i_6 : Nat) : Int))), (2, .int (iI (w (261 + 9 * v)))), (0, .ref t.1), (1, .int (iI v))]) hx hb dX4_isNeeded_120 rfl hl (by decide) rfl (fun ls hl => ?_)
          refine lv_iinc (v := iI (((i_6 : Nat) : Int) + 1)) (lv' := [(4, .int (iI (((i_6 : Nat) : Int) + 1))), (3, .int (iI (bI (tw_ndb w (w (261 + 9 * v)) v (tw_isReleased w v || decide (tw_newestOf w (w (261 + 9 * v)) (w (261 + 9 * v + 1)) = v)) (i_6 + 1))))), (5, .int (iI (5 + 32 * w (261 + 9 * v) + 8 + 8 * ((i_6 : Nat) : Int)))), (2, .int (iI (w (261 + 9 * v)))), (0, .ref t.1), (1, .int (iI v))]) hx hb dX4_isNeeded_121 hl (k := 2) rfl (iI_add _ _) (by decide) rfl (fun ls hl => ?_)
          refine lv_goto (tgt := 49) hx hb dX4_isNeeded_124 (by decide) ?_
          exact ih_7 (i_6 + 1) locs (by omega) hS (by omega) ls (z_lvren (lv_sub hl [1, 0, 3, 4, 5] rfl) (by first | rfl | simp))
    · exact by omega
/-- what a link opens among the first n versions; -1: none -/
def tw_op (w : Int → Int) (k p : Int) : Nat → Int
  | 0 => -1
  | n + 1 => if ((tw_isOn w n (w (801 + 3 * k + 2)) 0 && (tw_sees w p n && (decide (w (801 + 3 * k + 1) = 1) || tw_isReleased w n))) && (decide (tw_op w k p n = -1) || tw_isBehind w n (tw_op w k p n))) = true then (n : Int) else tw_op w k p n
theorem tw_op_R (w : Int → Int) (k p : Int) : ∀ n : Nat, -1 ≤ tw_op w k p n ∧ tw_op w k p n < n
  | 0 => by unfold tw_op; omega
  | n + 1 => by
    have h := tw_op_R w k p n
    unfold tw_op
    split <;> constructor <;> omega
def tw_opens (w : Int → Int) (k p : Int) : Int := if w (801 + 3 * k + 1) = 0 then (if tw_sees w p (w (801 + 3 * k + 2)) = true then w (801 + 3 * k + 2) else -1) else tw_op w k p (w 3).toNat
theorem tw_opens_R {w : Int → Int} {k p : Int} (h : tV w) (hk : 0 ≤ k ∧ k < w 4) (hL : tLk w) : -1 ≤ tw_opens w k p ∧ tw_opens w k p < w 3 := by
  unfold tw_opens
  split
  · have := hL k hk.1 hk.2 (by assumption)
    split <;> omega
  · have := tw_op_R w k p (w 3).toNat
    omega
theorem hn_X4_opens : yX4_opens.cls ≠ "java/lang/invoke/MethodHandle" ∧ yX4_opens.cls ≠ "java/lang/invoke/VarHandle" ∧ (parseMethodDescriptor yX4_opens.desc).map (fun d => d.parameters.length) = some 2 := by decide +kernel
theorem hd_X4_opens : yX4_opens.cls = "CheckoutDeskModel" ∧ yX4_opens.cls ≠ "java/lang/invoke/MethodHandle" ∧ yX4_opens.cls ≠ "java/lang/invoke/VarHandle" ∧ (parseMethodDescriptor yX4_opens.desc).map (fun d => d.parameters.length) = some 2 := ⟨rfl, hn_X4_opens⟩
abbrev rm_X4_opens : Room := { frames := 4, cells := 0, slots := 0, locals := 81 }
set_option maxHeartbeats 4000000 in
theorem tc_opens (l : Launch) {G : zG} {t : zTau} {w kp lg hr : Int → Int} {ev rd th : Int} {H0 : Heap} (hT : zT G t w kp lg hr ev rd th H0) {k p_ : Int} (hk : 0 ≤ k ∧ k < w 4) (hp6 : 0 ≤ p_ ∧ p_ < 6) (hD : tD w) (hV : tV w) (hL : tL w) (hVd : tVd w) (hLk : tLk w) : zM l yX4_opens (ws_ yX4_opens cX4_opens 8 (some .int)) rm_X4_opens G (zN H0) [.ref t.1, .int (iI k), .int (iI p_)] H0 (fun r H1 => r = some (.int (iI (tw_opens w k p_))) ∧ H1 = H0) (fun _ => False) := by
  refine z_enter (by decide +kernel) (Nat.le_of_ble_eq_true rfl) ?_
  intro p e s m args below meth c ls hx hb hr hml hown hts hlocks htab hnm hK hH hl
  subst hH
  have hAn : ∀ q, s.heap.size ≤ q → zN s.heap q := fun _ h => h
  have hS : va_S (zN s.heap) s.heap s.heap [] := va_S.rf
  have hl : lv_has ls 8 [(0, .ref t.1), (1, .int (iI k)), (2, .int (iI p_))] := hl
  refine lv_sipush (v := iI 801) hx hb dX4_opens_0 (by decide) ?_
  refine lv_iconst (v := iI 3) hx hb dX4_opens_3 rfl ?_
  refine lv_iload_n hx hb dX4_opens_4 rfl (lv_at hl 1 rfl) ?_
  refine z_imul (x := 3) (y := k) hx hb dX4_opens_5 ?_
  refine z_iadd (x := 801) (y := 3 * k) hx hb dX4_opens_6 ?_
  refine lv_istore_n (lv' := [(3, .int (iI (801 + 3 * k))), (0, .ref t.1), (1, .int (iI k)), (2, .int (iI p_))]) hx hb dX4_opens_7 rfl hl (by decide) rfl (fun ls hl => ?_)
  refine lv_aload_n hx hb dX4_opens_8 rfl (lv_at hl 1 rfl) ?_
  refine z_get (k := 0) hx hb hts in_X4 hown hK hT.1 rfl (by decide) q2331 rfl (v := .ref t.2.1) rfl dX4_opens_9 ?_
  refine lv_iload_n hx hb dX4_opens_12 rfl (lv_at hl 0 rfl) ?_
  refine lv_iconst (v := iI 2) hx hb dX4_opens_13 rfl ?_
  refine z_iadd (x := 801 + 3 * k) (y := 2) hx hb dX4_opens_14 ?_
  refine z_ildZ (i := 801 + 3 * k + 2) (f := w) hx hb hK hT.2.1 ⟨by omega, by omega⟩ (by decide) dX4_opens_15 ?_
  have r_1 : inR (w (801 + 3 * k + 2)) := hT.2.2.2.2.2.2.1 (801 + 3 * k + 2)
  refine lv_istore (lv' := [(4, .int (iI (w (801 + 3 * k + 2)))), (3, .int (iI (801 + 3 * k))), (0, .ref t.1), (1, .int (iI k)), (2, .int (iI p_))]) hx hb dX4_opens_16 hl (by decide) rfl (fun ls hl => ?_)
  refine lv_aload_n hx hb dX4_opens_18 rfl (lv_at hl 2 rfl) ?_
  refine z_get (k := 0) hx hb hts in_X4 hown hK hT.1 rfl (by decide) q2331 rfl (v := .ref t.2.1) rfl dX4_opens_19 ?_
  refine lv_iload_n hx hb dX4_opens_22 rfl (lv_at hl 1 rfl) ?_
  refine lv_iconst (v := iI 1) hx hb dX4_opens_23 rfl ?_
  refine z_iadd (x := 801 + 3 * k) (y := 1) hx hb dX4_opens_24 ?_
  refine z_ildZ (i := 801 + 3 * k + 1) (f := w) hx hb hK hT.2.1 ⟨by omega, by omega⟩ (by decide) dX4_opens_25 ?_
  have r_2 : inR (w (801 + 3 * k + 1)) := hT.2.2.2.2.2.2.1 (801 + 3 * k + 1)
  refine z_if_ne (x := w (801 + 3 * k + 1)) (tgt := 46) hx hb (by first | assumption | exact ⟨by omega, by omega⟩) dX4_opens_26 (by decide) (fun c_3 => ?_) (fun c_3 => ?_)
  · refine lv_iconst (v := iI (-1)) hx hb dX4_opens_46 rfl ?_
    refine lv_istore (lv' := [(5, .int (iI (-1))), (4, .int (iI (w (801 + 3 * k + 2)))), (3, .int (iI (801 + 3 * k))), (0, .ref t.1), (1, .int (iI k)), (2, .int (iI p_))]) hx hb dX4_opens_47 hl (by decide) rfl (fun ls hl => ?_)
    refine lv_iconst (v := iI 0) hx hb dX4_opens_49 rfl ?_
    refine lv_istore (lv' := [(6, .int (iI 0)), (5, .int (iI (-1))), (4, .int (iI (w (801 + 3 * k + 2)))), (3, .int (iI (801 + 3 * k))), (0, .ref t.1), (1, .int (iI k)), (2, .int (iI p_))]) hx hb dX4_opens_50 hl (by decide) rfl (fun ls hl => ?_)
    refine z_loop (H0 := s.heap) (nL := 8) (hd := 52) (fun i_4 : Nat => [(5, .int (iI (tw_op w k p_ i_4))), (6, .int (iI ((i_4 : Nat) : Int))), (4, .int (iI (w (801 + 3 * k + 2)))), (3, .int (iI (801 + 3 * k))), (0, .ref t.1), (1, .int (iI k)), (2, .int (iI p_))]) (fun i_4 : Nat => (i_4 : Int) ≤ w 3) (fun i_4 : Nat => (w 3).toNat - i_4) (fun i_4 locs hi_4 hS ih_5 ls hl => ?_) 0 _ ?_ hS ls (z_lvren (lv_sub hl [1, 0, 2, 3, 4, 5, 6] rfl) (by rfl))
    · have hl : lv_has ls 8 [(5, .int (iI (tw_op w k p_ i_4))), (6, .int (iI ((i_4 : Nat) : Int))), (4, .int (iI (w (801 + 3 * k + 2)))), (3, .int (iI (801 + 3 * k))), (0, .ref t.1), (1, .int (iI k)), (2, .int (iI p_))] := hl
      have hi_4 : (i_4 : Int) ≤ w 3 := hi_4
      have hop := tw_op_R w k p_ i_4
      refine lv_iload hx hb dX4_opens_52 (lv_at hl 1 rfl) ?_
      refine lv_aload_n hx hb dX4_opens_54 rfl (lv_at hl 4 rfl) ?_
      refine z_get (k := 0) hx hb hts in_X4 hown hK hT.1 rfl (by decide) q2331 rfl (v := .ref t.2.1) rfl dX4_opens_55 ?_
      refine lv_iconst (v := iI 3) hx hb dX4_opens_58 rfl ?_
      refine z_ildZ (i := 3) (f := w) hx hb hK hT.2.1 ⟨by omega, by omega⟩ (by decide) dX4_opens_59 ?_
      have r_6 : inR (w 3) := hT.2.2.2.2.2.2.1 3
      refine z_icmp_ge (x := ((i_4 : Nat) : Int)) (y := w 3) (tgt := 150) hx hb (by first | assumption | exact ⟨by omega, by omega⟩) (by first | assumption | exact ⟨by omega, by omega⟩) dX4_opens_60 (by decide) (fun c_7 => ?_) (fun c_7 => ?_)
      · refine lv_iload hx hb dX4_opens_150 (lv_at hl 0 rfl) ?_
        exact z_iret hx hb hr rfl hlocks hS ⟨by unfold tw_opens; rw [if_neg c_3, show (w 3).toNat = i_4 by omega], rfl⟩ (Nat.le_of_ble_eq_true rfl) (Nat.le_of_ble_eq_true rfl) dX4_opens_152
      · have hvd := hVd (i_4 : Int) (by omega) c_7
        refine lv_aload_n hx hb dX4_opens_63 rfl (lv_at hl 4 rfl) ?_
        refine lv_iload hx hb dX4_opens_64 (lv_at hl 1 rfl) ?_
        refine lv_iload hx hb dX4_opens_66 (lv_at hl 2 rfl) ?_
        refine lv_iconst (v := iI 0) hx hb dX4_opens_68 rfl ?_
        refine z_callp (vx_runV (As := [.int (iI ((i_4 : Nat) : Int)), .int (iI (w (801 + 3 * k + 2))), .int (iI 0)]) (rest := []) ⟨hx, hb, hml, hown, hts⟩ (tc_isOn l hT (v := ((i_4 : Nat) : Int)) (d := w (801 + 3 * k + 2)) (b := 0) (by first | assumption | exact ⟨by omega, by omega⟩ | omega) (by first | assumption | exact ⟨by omega, by omega⟩ | omega) (by first | assumption | exact ⟨by omega, by omega⟩ | omega)) (cwV 3 hts (lw_V q2445 q2447 qs23 q49 q2448) rfl rfl rfl hd_X4_isOn ⟨Nat.le_of_ble_eq_true rfl, Nat.le_of_ble_eq_true rfl⟩) (z_preV hK hS (zN_le hAn hS) hT.1 rfl rfl) rfl rfl hl.1 rfl (lv_room (Nat.le_of_ble_eq_true rfl)) dX4_opens_69 ⟨Nat.le_of_ble_eq_true rfl, Nat.le_of_ble_eq_true rfl⟩) hS (zN_le hAn hS) rfl rfl (fun locs hS => ?_)
        refine z_join (pc2 := 111) (nL := 8) (lv := [(5, .int (iI (tw_op w k p_ i_4))), (6, .int (iI ((i_4 : Nat) : Int))), (4, .int (iI (w (801 + 3 * k + 2)))), (3, .int (iI (801 + 3 * k))), (0, .ref t.1), (1, .int (iI k)), (2, .int (iI p_))]) (st2 := [.int (iI (bI ((tw_isOn w ((i_4 : Nat) : Int) (w (801 + 3 * k + 2)) 0) && ((tw_sees w p_ ((i_4 : Nat) : Int)) && ((decide (w (801 + 3 * k + 1) = 1)) || (tw_isReleased w ((i_4 : Nat) : Int)))))))]) hS (fun J_8 => ?_) (fun locs ls hS hl => ?_)
        · refine z_ifb_eq (b := tw_isOn w ((i_4 : Nat) : Int) (w (801 + 3 * k + 2)) 0) (tgt := 110) hx hb dX4_opens_72 (by decide) (fun c_9 => ?_) (fun c_9 => ?_)
          · refine lv_iconst (v := iI 0) hx hb dX4_opens_110 rfl ?_
            refine z_top (x := 0) (y := bI ((tw_isOn w ((i_4 : Nat) : Int) (w (801 + 3 * k + 2)) 0) && ((tw_sees w p_ ((i_4 : Nat) : Int)) && ((decide (w (801 + 3 * k + 1) = 1)) || (tw_isReleased w ((i_4 : Nat) : Int)))))) (by simp [bI, c_9]) ?_
            exact J_8 _ ls hS (lv_sub hl [0, 1, 2, 3, 4, 5, 6] rfl)
          · refine lv_aload_n hx hb dX4_opens_75 rfl (lv_at hl 4 rfl) ?_
            refine lv_iload_n hx hb dX4_opens_76 rfl (lv_at hl 6 rfl) ?_
            refine lv_iload hx hb dX4_opens_77 (lv_at hl 1 rfl) ?_
            refine z_callp (vx_runV (As := [.int (iI p_), .int (iI ((i_4 : Nat) : Int))]) (rest := []) ⟨hx, hb, hml, hown, hts⟩ (tc_sees l hT (p_ := p_) (v := ((i_4 : Nat) : Int)) (by first | assumption | exact ⟨by omega, by omega⟩ | omega) (by first | assumption | exact ⟨by omega, by omega⟩ | omega) (by first | assumption | exact ⟨by omega, by omega⟩ | omega)) (cwV 2 hts (lw_V q2513 q2515 qs31 q49 q2516) rfl rfl rfl hd_X4_sees ⟨Nat.le_of_ble_eq_true rfl, Nat.le_of_ble_eq_true rfl⟩) (z_preV hK hS (zN_le hAn hS) hT.1 rfl rfl) rfl rfl hl.1 rfl (lv_room (Nat.le_of_ble_eq_true rfl)) dX4_opens_79 ⟨Nat.le_of_ble_eq_true rfl, Nat.le_of_ble_eq_true rfl⟩) hS (zN_le hAn hS) rfl rfl (fun locs hS => ?_)
            refine z_ifb_eq (b := tw_sees w p_ ((i_4 : Nat) : Int)) (tgt := 110) hx hb dX4_opens_82 (by decide) (fun c_10 => ?_) (fun c_10 => ?_)
            · refine lv_iconst (v := iI 0) hx hb dX4_opens_110 rfl ?_
              refine z_top (x := 0) (y := bI ((tw_isOn w ((i_4 : Nat) : Int) (w (801 + 3 * k + 2)) 0) && ((tw_sees w p_ ((i_4 : Nat) : Int)) && ((decide (w (801 + 3 * k + 1) = 1)) || (tw_isReleased w ((i_4 : Nat) : Int)))))) (by simp [bI, c_9, c_10]) ?_
              exact J_8 _ ls hS (lv_sub hl [0, 1, 2, 3, 4, 5, 6] rfl)
            · refine lv_aload_n hx hb dX4_opens_85 rfl (lv_at hl 4 rfl) ?_
              refine z_get (k := 0) hx hb hts in_X4 hown hK hT.1 rfl (by decide) q2331 rfl (v := .ref t.2.1) rfl dX4_opens_86 ?_
              refine lv_iload_n hx hb dX4_opens_89 rfl (lv_at hl 3 rfl) ?_
              refine lv_iconst (v := iI 1) hx hb dX4_opens_90 rfl ?_
              refine z_iadd (x := 801 + 3 * k) (y := 1) hx hb dX4_opens_91 ?_
              refine z_ildZ (i := 801 + 3 * k + 1) (f := w) hx hb hK hT.2.1 ⟨by omega, by omega⟩ (by decide) dX4_opens_92 ?_
              have r_11 : inR (w (801 + 3 * k + 1)) := hT.2.2.2.2.2.2.1 (801 + 3 * k + 1)
              refine lv_iconst (v := iI 1) hx hb dX4_opens_93 rfl ?_
              refine z_icmp_eq (x := w (801 + 3 * k + 1)) (y := 1) (tgt := 106) hx hb (by first | assumption | exact ⟨by omega, by omega⟩) (by decide) dX4_opens_94 (by decide) (fun c_12 => ?_) (fun c_12 => ?_)
              · refine lv_iconst (v := iI 1) hx hb dX4_opens_106 rfl ?_
                refine lv_goto (tgt := 111) hx hb dX4_opens_107 (by decide) ?_
                refine z_top (x := 1) (y := bI ((tw_isOn w ((i_4 : Nat) : Int) (w (801 + 3 * k + 2)) 0) && ((tw_sees w p_ ((i_4 : Nat) : Int)) && ((decide (w (801 + 3 * k + 1) = 1)) || (tw_isReleased w ((i_4 : Nat) : Int)))))) (by simp [bI, c_9, c_10, c_12]) ?_
                exact J_8 _ ls hS (lv_sub hl [0, 1, 2, 3, 4, 5, 6] rfl)
              · refine lv_aload_n hx hb dX4_opens_97 rfl (lv_at hl 4 rfl) ?_
                refine lv_iload hx hb dX4_opens_98 (lv_at hl 1 rfl) ?_
                refine z_callp (vx_runV (As := [.int (iI ((i_4 : Nat) : Int))]) (rest := []) ⟨hx, hb, hml, hown, hts⟩ (tc_isReleased l hT (v := ((i_4 : Nat) : Int)) (by first | assumption | exact ⟨by omega, by omega⟩ | omega)) (cwV 1 hts (lw_V q2485 q2487 qs28 q49 q2488) rfl rfl rfl hd_X4_isReleased ⟨Nat.le_of_ble_eq_true rfl, Nat.le_of_ble_eq_true rfl⟩) (z_preV hK hS (zN_le hAn hS) hT.1 rfl rfl) rfl rfl hl.1 rfl (lv_room (Nat.le_of_ble_eq_true rfl)) dX4_opens_100 ⟨Nat.le_of_ble_eq_true rfl, Nat.le_of_ble_eq_true rfl⟩) hS (zN_le hAn hS) rfl rfl (fun locs hS => ?_)
                refine z_ifb_eq (b := tw_isReleased w ((i_4 : Nat) : Int)) (tgt := 110) hx hb dX4_opens_103 (by decide) (fun c_13 => ?_) (fun c_13 => ?_)
                · refine lv_iconst (v := iI 0) hx hb dX4_opens_110 rfl ?_
                  refine z_top (x := 0) (y := bI ((tw_isOn w ((i_4 : Nat) : Int) (w (801 + 3 * k + 2)) 0) && ((tw_sees w p_ ((i_4 : Nat) : Int)) && ((decide (w (801 + 3 * k + 1) = 1)) || (tw_isReleased w ((i_4 : Nat) : Int)))))) (by simp [bI, c_9, c_10, c_12, c_13]) ?_
                  exact J_8 _ ls hS (lv_sub hl [0, 1, 2, 3, 4, 5, 6] rfl)
                · refine lv_iconst (v := iI 1) hx hb dX4_opens_106 rfl ?_
                  refine lv_goto (tgt := 111) hx hb dX4_opens_107 (by decide) ?_
                  refine z_top (x := 1) (y := bI ((tw_isOn w ((i_4 : Nat) : Int) (w (801 + 3 * k + 2)) 0) && ((tw_sees w p_ ((i_4 : Nat) : Int)) && ((decide (w (801 + 3 * k + 1) = 1)) || (tw_isReleased w ((i_4 : Nat) : Int)))))) (by simp [bI, c_9, c_10, c_12, c_13]) ?_
                  exact J_8 _ ls hS (lv_sub hl [0, 1, 2, 3, 4, 5, 6] rfl)
        · refine lv_istore (lv' := [(7, .int (iI (bI ((tw_isOn w ((i_4 : Nat) : Int) (w (801 + 3 * k + 2)) 0) && ((tw_sees w p_ ((i_4 : Nat) : Int)) && ((decide (w (801 + 3 * k + 1) = 1)) || (tw_isReleased w ((i_4 : Nat) : Int)))))))), (5, .int (iI (tw_op w k p_ i_4))), (6, .int (iI ((i_4 : Nat) : Int))), (4, .int (iI (w (801 + 3 * k + 2)))), (3, .int (iI (801 + 3 * k))), (0, .ref t.1), (1, .int (iI k)), (2, .int (iI p_))]) hx hb dX4_opens_111 hl (by decide) rfl (fun ls hl => ?_)
          refine lv_iload hx hb dX4_opens_113 (lv_at hl 0 rfl) ?_
          refine z_join (pc2 := 142) (nL := 8) (lv := [(7, .int (iI (bI ((tw_isOn w ((i_4 : Nat) : Int) (w (801 + 3 * k + 2)) 0) && ((tw_sees w p_ ((i_4 : Nat) : Int)) && ((decide (w (801 + 3 * k + 1) = 1)) || (tw_isReleased w ((i_4 : Nat) : Int)))))))), (5, .int (iI (tw_op w k p_ i_4))), (6, .int (iI ((i_4 : Nat) : Int))), (4, .int (iI (w (801 + 3 * k + 2)))), (3, .int (iI (801 + 3 * k))), (0, .ref t.1), (1, .int (iI k)), (2, .int (iI p_))]) (st2 := [.int (iI (tw_op w k p_ (i_4 + 1)))]) hS (fun J_14 => ?_) (fun locs ls hS hl => ?_)
          · refine z_ifb_eq (b := (tw_isOn w ((i_4 : Nat) : Int) (w (801 + 3 * k + 2)) 0) && ((tw_sees w p_ ((i_4 : Nat) : Int)) && ((decide (w (801 + 3 * k + 1) = 1)) || (tw_isReleased w ((i_4 : Nat) : Int))))) (tgt := 140) hx hb dX4_opens_115 (by decide) (fun c_15 => ?_) (fun c_15 => ?_)
            · refine lv_iload hx hb dX4_opens_140 (lv_at hl 1 rfl) ?_
              refine z_top (x := tw_op w k p_ i_4) (y := tw_op w k p_ (i_4 + 1)) (by simp [tw_op, c_15]) ?_
              exact J_14 _ ls hS (lv_sub hl [0, 1, 2, 3, 4, 5, 6, 7] rfl)
            · refine lv_iload hx hb dX4_opens_118 (lv_at hl 1 rfl) ?_
              refine lv_iconst (v := iI (-1)) hx hb dX4_opens_120 rfl ?_
              refine z_icmp_eq (x := tw_op w k p_ i_4) (y := (-1)) (tgt := 135) hx hb (by first | assumption | exact ⟨by omega, by omega⟩) (by decide) dX4_opens_121 (by decide) (fun c_16 => ?_) (fun c_16 => ?_)
              · refine lv_iload hx hb dX4_opens_135 (lv_at hl 2 rfl) ?_
                refine lv_goto (tgt := 142) hx hb dX4_opens_137 (by decide) ?_
                refine z_top (x := ((i_4 : Nat) : Int)) (y := tw_op w k p_ (i_4 + 1)) (by simp [tw_op, c_15, c_16]) ?_
                exact J_14 _ ls hS (lv_sub hl [0, 1, 2, 3, 4, 5, 6, 7] rfl)
              · refine lv_aload_n hx hb dX4_opens_124 rfl (lv_at hl 5 rfl) ?_
                refine lv_iload hx hb dX4_opens_125 (lv_at hl 2 rfl) ?_
                refine lv_iload hx hb dX4_opens_127 (lv_at hl 1 rfl) ?_
                refine z_callp (vx_runV (As := [.int (iI ((i_4 : Nat) : Int)), .int (iI (tw_op w k p_ i_4))]) (rest := []) ⟨hx, hb, hml, hown, hts⟩ (tc_isBehind l hT (a := ((i_4 : Nat) : Int)) (b := tw_op w k p_ i_4) (by first | assumption | exact ⟨by omega, by omega⟩ | omega) (by first | assumption | exact ⟨by omega, by omega⟩ | omega)) (cwV 2 hts (lw_V q2449 q2451 qs24 q49 q2452) rfl rfl rfl hd_X4_isBehind ⟨Nat.le_of_ble_eq_true rfl, Nat.le_of_ble_eq_true rfl⟩) (z_preV hK hS (zN_le hAn hS) hT.1 rfl rfl) rfl rfl hl.1 rfl (lv_room (Nat.le_of_ble_eq_true rfl)) dX4_opens_129 ⟨Nat.le_of_ble_eq_true rfl, Nat.le_of_ble_eq_true rfl⟩) hS (zN_le hAn hS) rfl rfl (fun locs hS => ?_)
                refine z_ifb_eq (b := tw_isBehind w ((i_4 : Nat) : Int) (tw_op w k p_ i_4)) (tgt := 140) hx hb dX4_opens_132 (by decide) (fun c_17 => ?_) (fun c_17 => ?_)
                · refine lv_iload hx hb dX4_opens_140 (lv_at hl 1 rfl) ?_
                  refine z_top (x := tw_op w k p_ i_4) (y := tw_op w k p_ (i_4 + 1)) (by simp [tw_op, c_15, c_16, c_17]) ?_
                  exact J_14 _ ls hS (lv_sub hl [0, 1, 2, 3, 4, 5, 6, 7] rfl)
                · refine lv_iload hx hb dX4_opens_135 (lv_at hl 2 rfl) ?_
                  refine lv_goto (tgt := 142) hx hb dX4_opens_137 (by decide) ?_
                  refine z_top (x := ((i_4 : Nat) : Int)) (y := tw_op w k p_ (i_4 + 1)) (by simp [tw_op, c_15, c_16, c_17]) ?_
                  exact J_14 _ ls hS (lv_sub hl [0, 1, 2, 3, 4, 5, 6, 7] rfl)
          · refine lv_istore (lv' := [(5, .int (iI (tw_op w k p_ (i_4 + 1)))), (7, .int (iI (bI ((tw_isOn w ((i_4 : Nat) : Int) (w (801 + 3 * k + 2)) 0) && ((tw_sees w p_ ((i_4 : Nat) : Int)) && ((decide (w (801 + 3 * k + 1) = 1)) || (tw_isReleased w ((i_4 : Nat) : Int)))))))), (6, .int (iI ((i_4 : Nat) : Int))), (4, .int (iI (w (801 + 3 * k + 2)))), (3, .int (iI (801 + 3 * k))), (0, .ref t.1), (1, .int (iI k)), (2, .int (iI p_))]) hx hb dX4_opens_142 hl (by decide) rfl (fun ls hl => ?_)
            refine lv_iinc (v := iI (((i_4 : Nat) : Int) + 1)) (lv' := [(6, .int (iI (((i_4 : Nat) : Int) + 1))), (5, .int (iI (tw_op w k p_ (i_4 + 1)))), (7, .int (iI (bI ((tw_isOn w ((i_4 : Nat) : Int) (w (801 + 3 * k + 2)) 0) && ((tw_sees w p_ ((i_4 : Nat) : Int)) && ((decide (w (801 + 3 * k + 1) = 1)) || (tw_isReleased w ((i_4 : Nat) : Int)))))))), (4, .int (iI (w (801 + 3 * k + 2)))), (3, .int (iI (801 + 3 * k))), (0, .ref t.1), (1, .int (iI k)), (2, .int (iI p_))]) hx hb dX4_opens_144 hl (k := 2) rfl (iI_add _ _) (by decide) rfl (fun ls hl => ?_)
            refine lv_goto (tgt := 52) hx hb dX4_opens_147 (by decide) ?_
            exact ih_5 (i_4 + 1) locs (by omega) hS (by omega) ls (z_lvren (lv_sub hl [1, 0, 3, 4, 5, 6, 7] rfl) (by first | rfl | simp))
    · exact by omega
  · have hlk := hLk k hk.1 hk.2 c_3
    have hvd := hVd _ hlk.1 hlk.2
    refine lv_aload_n hx hb dX4_opens_29 rfl (lv_at hl 2 rfl) ?_
    refine lv_iload_n hx hb dX4_opens_30 rfl (lv_at hl 4 rfl) ?_
    refine lv_iload hx hb dX4_opens_31 (lv_at hl 0 rfl) ?_
    refine z_callp (vx_runV (As := [.int (iI p_), .int (iI (w (801 + 3 * k + 2)))]) (rest := []) ⟨hx, hb, hml, hown, hts⟩ (tc_sees l hT (p_ := p_) (v := w (801 + 3 * k + 2)) (by first | assumption | exact ⟨by omega, by omega⟩ | omega) (by first | assumption | exact ⟨by omega, by omega⟩ | omega) (by first | assumption | exact ⟨by omega, by omega⟩ | omega)) (cwV 2 hts (lw_V q2513 q2515 qs31 q49 q2516) rfl rfl rfl hd_X4_sees ⟨Nat.le_of_ble_eq_true rfl, Nat.le_of_ble_eq_true rfl⟩) (z_preV hK hS (zN_le hAn hS) hT.1 rfl rfl) rfl rfl hl.1 rfl (lv_room (Nat.le_of_ble_eq_true rfl)) dX4_opens_33 ⟨Nat.le_of_ble_eq_true rfl, Nat.le_of_ble_eq_true rfl⟩) hS (zN_le hAn hS) rfl rfl (fun locs hS => ?_)
    refine z_join (pc2 := 45) (nL := 8) (lv := [(4, .int (iI (w (801 + 3 * k + 2)))), (3, .int (iI (801 + 3 * k))), (0, .ref t.1), (1, .int (iI k)), (2, .int (iI p_))]) (st2 := [.int (iI (if (tw_sees w p_ (w (801 + 3 * k + 2))) = true then w (801 + 3 * k + 2) else (-1)))]) hS (fun J_18 => ?_) (fun locs ls hS hl => ?_)
    · refine z_ifb_eq (b := tw_sees w p_ (w (801 + 3 * k + 2))) (tgt := 44) hx hb dX4_opens_36 (by decide) (fun c_19 => ?_) (fun c_19 => ?_)
      · refine lv_iconst (v := iI (-1)) hx hb dX4_opens_44 rfl ?_
        refine z_top (x := (-1)) (y := if (tw_sees w p_ (w (801 + 3 * k + 2))) = true then w (801 + 3 * k + 2) else (-1)) (by simp [bI, c_19]) ?_
        exact J_18 _ ls hS (lv_sub hl [0, 1, 2, 3, 4] rfl)
      · refine lv_iload hx hb dX4_opens_39 (lv_at hl 0 rfl) ?_
        refine lv_goto (tgt := 45) hx hb dX4_opens_41 (by decide) ?_
        refine z_top (x := w (801 + 3 * k + 2)) (y := if (tw_sees w p_ (w (801 + 3 * k + 2))) = true then w (801 + 3 * k + 2) else (-1)) (by simp [bI, c_19]) ?_
        exact J_18 _ ls hS (lv_sub hl [0, 1, 2, 3, 4] rfl)
    · exact z_iret hx hb hr rfl hlocks hS ⟨by unfold tw_opens; rw [if_pos c_3], rfl⟩ (Nat.le_of_ble_eq_true rfl) (Nat.le_of_ble_eq_true rfl) dX4_opens_45
