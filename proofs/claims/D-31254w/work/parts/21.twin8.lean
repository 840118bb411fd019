set_option maxRecDepth 100000
def qC_then (ev a1 : Int) : Int := tw_ok3 (tw_lies a1 0 ev) true true
def qA_newestThen (lg : Int → Int) (a1 a2 a3 : Int) : Int := if tw_isBranch (gRun lg a1.toNat) a2 a3 = true then tw_newestOf (gRun lg a1.toNat) a2 a3 else -1
theorem hn_X4_newestThen : yX4_newestThen.cls ≠ "java/lang/invoke/MethodHandle" ∧ yX4_newestThen.cls ≠ "java/lang/invoke/VarHandle" ∧ (parseMethodDescriptor yX4_newestThen.desc).map (fun d => d.parameters.length) = some 3 := by decide +kernel
theorem hd_X4_newestThen : yX4_newestThen.cls = "CheckoutDeskModel" ∧ yX4_newestThen.cls ≠ "java/lang/invoke/MethodHandle" ∧ yX4_newestThen.cls ≠ "java/lang/invoke/VarHandle" ∧ (parseMethodDescriptor yX4_newestThen.desc).map (fun d => d.parameters.length) = some 3 := ⟨rfl, hn_X4_newestThen⟩
abbrev rm_X4_newestThen : Room := { frames := 9, cells := 0, slots := 0, locals := 204 }
set_option maxHeartbeats 1000000 in
theorem tc_newestThen (l : Launch) {G : zG} {t : zTau} {w kp lg hr : Int → Int} {ev th : Int} {H0 : Heap} (hT : zT G t w kp lg hr ev 0 th H0) {a1 a2 a3 : Int} (ha1 : inR a1) (ha2 : inR a2) (ha3 : inR a3) (hOK : gOK lg ev) : zM l yX4_newestThen (ws_ yX4_newestThen cX4_newestThen 5 (some .int)) rm_X4_newestThen G (zTw t H0) [.ref t.1, .int (iI a1), .int (iI a2), .int (iI a3)] H0 (fun r H1 => r = some (.int (iI (kA (qC_then ev a1) (qA_newestThen lg a1 a2 a3)))) ∧ zT G t w (kW (qC_then ev a1) kp w) lg hr ev 0 (qC_then ev a1) H1) (fun _ => False) := by
  refine z_enter (by decide +kernel) (Nat.le_of_ble_eq_true rfl) ?_
  intro p e s m args below meth c ls hx hb hret hml hown hts hlocks htab hnm hK hH hl
  subst hH
  have hAn : ∀ q, s.heap.size ≤ q → zTw t s.heap q := fun _ h => Or.inr h
  have hTA : ∀ q, zTA t q → zTw t s.heap q := fun _ h => Or.inl h
  have hS : va_S (zTw t s.heap) s.heap s.heap [] := va_S.rf
  have hl : lv_has ls 5 [(0, .ref t.1), (1, .int (iI a1)), (2, .int (iI a2)), (3, .int (iI a3))] := hl
  have hrd := hT.2.2.2.2.2.2.2.2.2.2.2
  have hev := hT.2.2.2.2.2.2.2.2.2.2.1
  have hwR := hT.2.2.2.2.2.2.1
  refine lv_aload_n hx hb dX4_newestThen_0 rfl (lv_at hl 0 rfl) ?_
  refine lv_iload_n hx hb dX4_newestThen_1 rfl (lv_at hl 1 rfl) ?_
  refine lv_iconst (v := iI 0) hx hb dX4_newestThen_2 rfl ?_
  refine lv_aload_n hx hb dX4_newestThen_3 rfl (lv_at hl 0 rfl) ?_
  refine z_get (k := 4) hx hb hts in_X4 hown hK hT.1 rfl (by decide) q2335 rfl (v := .int (iI ev)) rfl dX4_newestThen_4 ?_
  refine z_callp (vx_runS (As := [.int (iI a1), .int (iI 0), .int (iI ev)]) (rest := [.ref t.1]) ⟨hx, hb, hml, hown, hts⟩ (tc_lies l (v := a1) (low := 0) (high := ev) (by first | with_reducible assumption | omega | exact ⟨by omega, by omega⟩ | omega) (by first | with_reducible assumption | omega | exact ⟨by omega, by omega⟩ | omega) (by first | with_reducible assumption | omega | exact ⟨by omega, by omega⟩ | omega)) (va_cwS 3 hts (lw_S q2365 q2366 q49 q2367) rfl rfl rfl hn_X4_lies ⟨Nat.le_of_ble_eq_true rfl, Nat.le_of_ble_eq_true rfl⟩) (z_preS hK hS (zN_le hAn hS)) rfl rfl hl.1 rfl (lv_room (Nat.le_of_ble_eq_true rfl)) dX4_newestThen_7 ⟨Nat.le_of_ble_eq_true rfl, Nat.le_of_ble_eq_true rfl⟩) hS (zN_le hAn hS) rfl rfl (fun locs hS => ?_)
  refine z_callm (v := .int (iI (bI (tw_lies a1 0 ev)))) (P := (fun H1 => zT G t w kp lg hr ev 0 (tw_ok3 (tw_lies a1 0 ev) true true) H1)) (vx_runV (As := [.int (iI (bI (tw_lies a1 0 ev)))]) (rest := []) ⟨hx, hb, hml, hown, hts⟩ (tc_ok_3 l hT (ba := tw_lies a1 0 ev)) (cwV 1 hts (lw_V q2384 q2386 qs14 q49 q2387) rfl rfl rfl hd_X4_ok_3 ⟨Nat.le_of_ble_eq_true rfl, Nat.le_of_ble_eq_true rfl⟩) (z_preV hK hS (zTw_le hTA hAn hS) hT.1 rfl rfl) rfl rfl hl.1 rfl (lv_room (Nat.le_of_ble_eq_true rfl)) dX4_newestThen_10 ⟨Nat.le_of_ble_eq_true rfl, Nat.le_of_ble_eq_true rfl⟩) hS (zTw_le hTA hAn hS) rfl rfl (fun H locs hT hS => ?_)
  refine z_ifb_ne (b := tw_lies a1 0 ev) (tgt := 18) hx hb dX4_newestThen_13 (by decide) (fun c_1 => ?_) (fun c_1 => ?_)
  · have hle := tw_lies_iff.mp c_1
    have hOKa : gOK lg a1 := fun k hk => hOK k (by omega)
    have hIr := gInv hOKa a1.toNat (by omega)
    obtain ⟨hD2, hV2, hL2, hB2, -, -, -, -, hBr2, -⟩ := hIr
    refine lv_aload_n hx hb dX4_newestThen_18 rfl (lv_at hl 0 rfl) ?_
    refine lv_iload_n hx hb dX4_newestThen_19 rfl (lv_at hl 1 rfl) ?_
    refine z_callmv (P := (fun H1 => zT G t (gRun lg (a1).toNat) w lg hr ev 0 (tw_rth (tw_ok3 (tw_lies a1 0 ev) true true) (a1).toNat) H1)) (vx_runV (As := [.int (iI a1)]) (rest := []) ⟨hx, hb, hml, hown, hts⟩ (tc_redo l hT (a1 := a1) (by first | with_reducible assumption | omega | exact ⟨by omega, by omega⟩ | omega) (by first | with_reducible assumption | omega | exact ⟨by omega, by omega⟩ | omega)) (cwV 1 hts (lw_V q2611 q2613 qs35 q49 q2614) rfl rfl rfl hd_X4_redo ⟨Nat.le_of_ble_eq_true rfl, Nat.le_of_ble_eq_true rfl⟩) (z_preV hK hS (zTw_le hTA hAn hS) hT.1 rfl rfl) rfl rfl hl.1 rfl (lv_room (Nat.le_of_ble_eq_true rfl)) dX4_newestThen_20 ⟨Nat.le_of_ble_eq_true rfl, Nat.le_of_ble_eq_true rfl⟩) hS (zTw_le hTA hAn hS) rfl rfl (fun H locs hT hS => ?_)
    refine lv_aload_n hx hb dX4_newestThen_23 rfl (lv_at hl 0 rfl) ?_
    refine lv_iload_n hx hb dX4_newestThen_24 rfl (lv_at hl 2 rfl) ?_
    refine lv_iload_n hx hb dX4_newestThen_25 rfl (lv_at hl 3 rfl) ?_
    refine z_callp (vx_runV (As := [.int (iI a2), .int (iI a3)]) (rest := []) ⟨hx, hb, hml, hown, hts⟩ (tc_isBranch l hT (d := a2) (b := a3) (by first | with_reducible assumption | omega | exact ⟨by omega, by omega⟩ | omega) (by first | with_reducible assumption | omega | exact ⟨by omega, by omega⟩ | omega) (by first | with_reducible assumption | omega | exact ⟨by omega, by omega⟩ | omega) (by first | with_reducible assumption | omega | exact ⟨by omega, by omega⟩ | omega)) (cwV 2 hts (lw_V q2424 q2426 qs18 q49 q2427) rfl rfl rfl hd_X4_isBranch ⟨Nat.le_of_ble_eq_true rfl, Nat.le_of_ble_eq_true rfl⟩) (z_preV hK hS (zN_le hAn hS) hT.1 rfl rfl) rfl rfl hl.1 rfl (lv_room (Nat.le_of_ble_eq_true rfl)) dX4_newestThen_26 ⟨Nat.le_of_ble_eq_true rfl, Nat.le_of_ble_eq_true rfl⟩) hS (zN_le hAn hS) rfl rfl (fun locs hS => ?_)
    refine z_join (pc2 := 42) (nL := 5) (lv := [(0, .ref t.1), (1, .int (iI a1)), (2, .int (iI a2)), (3, .int (iI a3))]) (st2 := [.int (iI (if (tw_isBranch (gRun lg (a1).toNat) a2 a3) = true then tw_newestOf (gRun lg (a1).toNat) a2 a3 else (-1)))]) hS (fun J_2 => ?_) (fun locs ls hS hl => ?_)
    · refine z_ifb_eq (b := tw_isBranch (gRun lg (a1).toNat) a2 a3) (tgt := 41) hx hb dX4_newestThen_29 (by decide) (fun c_3 => ?_) (fun c_3 => ?_)
      · refine lv_iconst (v := iI (-1)) hx hb dX4_newestThen_41 rfl ?_
        refine z_top (x := (-1)) (y := if (tw_isBranch (gRun lg (a1).toNat) a2 a3) = true then tw_newestOf (gRun lg (a1).toNat) a2 a3 else (-1)) (by simp [bI, c_3]) ?_
        exact J_2 _ ls hS (lv_sub hl [0, 1, 2, 3] rfl)
      · obtain ⟨hd, hbx⟩ := tw_isBranch_iff.mp c_3
        have hb3 := hB2 _ hd.1 hd.2
        obtain ⟨hho, -⟩ := hBr2 _ _ hd.1 hd.2 hbx.1 hbx.2
        refine lv_aload_n hx hb dX4_newestThen_32 rfl (lv_at hl 0 rfl) ?_
        refine lv_iload_n hx hb dX4_newestThen_33 rfl (lv_at hl 2 rfl) ?_
        refine lv_iload_n hx hb dX4_newestThen_34 rfl (lv_at hl 3 rfl) ?_
        refine z_callp (vx_runV (As := [.int (iI a2), .int (iI a3)]) (rest := []) ⟨hx, hb, hml, hown, hts⟩ (tc_newestOf l hT (d := a2) (b := a3) (by first | with_reducible assumption | omega | exact ⟨by omega, by omega⟩ | omega) (by first | with_reducible assumption | omega | exact ⟨by omega, by omega⟩ | omega) (by first | with_reducible assumption | omega | exact ⟨by omega, by omega⟩ | omega)) (cwV 2 hts (lw_V q2441 q2443 qs22 q49 q2444) rfl rfl rfl hd_X4_newestOf ⟨Nat.le_of_ble_eq_true rfl, Nat.le_of_ble_eq_true rfl⟩) (z_preV hK hS (zN_le hAn hS) hT.1 rfl rfl) rfl rfl hl.1 rfl (lv_room (Nat.le_of_ble_eq_true rfl)) dX4_newestThen_35 ⟨Nat.le_of_ble_eq_true rfl, Nat.le_of_ble_eq_true rfl⟩) hS (zN_le hAn hS) rfl rfl (fun locs hS => ?_)
        refine lv_goto (tgt := 42) hx hb dX4_newestThen_38 (by decide) ?_
        refine z_top (x := tw_newestOf (gRun lg (a1).toNat) a2 a3) (y := if (tw_isBranch (gRun lg (a1).toNat) a2 a3) = true then tw_newestOf (gRun lg (a1).toNat) a2 a3 else (-1)) (by simp [bI, c_3]) ?_
        exact J_2 _ ls hS (lv_sub hl [0, 1, 2, 3] rfl)
    · refine lv_istore (lv' := [(4, .int (iI (if (tw_isBranch (gRun lg (a1).toNat) a2 a3) = true then tw_newestOf (gRun lg (a1).toNat) a2 a3 else (-1)))), (0, .ref t.1), (1, .int (iI a1)), (2, .int (iI a2)), (3, .int (iI a3))]) hx hb dX4_newestThen_42 hl (by decide) rfl (fun ls hl => ?_)
      refine lv_aload_n hx hb dX4_newestThen_44 rfl (lv_at hl 1 rfl) ?_
      refine z_callmv (P := (fun H1 => zT G t w w lg hr ev 0 (tw_rth (tw_ok3 (tw_lies a1 0 ev) true true) (a1).toNat) H1)) (vx_runV (As := []) (rest := []) ⟨hx, hb, hml, hown, hts⟩ (tc_back l hT ) (cwV 0 hts (lw_V q2647 q2649 qs40 q49 q2650) rfl rfl rfl hd_X4_back ⟨Nat.le_of_ble_eq_true rfl, Nat.le_of_ble_eq_true rfl⟩) (z_preV hK hS (zTw_le hTA hAn hS) hT.1 rfl rfl) rfl rfl hl.1 rfl (lv_room (Nat.le_of_ble_eq_true rfl)) dX4_newestThen_45 ⟨Nat.le_of_ble_eq_true rfl, Nat.le_of_ble_eq_true rfl⟩) hS (zTw_le hTA hAn hS) rfl rfl (fun H locs hT hS => ?_)
      refine lv_aload_n hx hb dX4_newestThen_48 rfl (lv_at hl 1 rfl) ?_
      refine lv_iconst (v := iI 0) hx hb dX4_newestThen_49 rfl ?_
      refine zt_th (x := 0) hx hb hts hown hK q2337 hT hTA hS dX4_newestThen_50 (fun H locs hT hS => ?_)
      refine lv_iload hx hb dX4_newestThen_53 (lv_at hl 0 rfl) ?_
      exact z_iret hx hb hret rfl hlocks hS (by have hc : qC_then ev a1 = 0 := (by unfold qC_then; simp only [tw_ok3_0]; simp_all); exact ⟨by rw [kA, if_pos hc]; rfl, by rw [kW, if_pos hc, hc]; exact hT⟩) (Nat.le_of_ble_eq_true rfl) (Nat.le_of_ble_eq_true rfl) dX4_newestThen_55
  · refine lv_iconst (v := iI 0) hx hb dX4_newestThen_16 rfl ?_
    exact z_iret hx hb hret rfl hlocks hS (by have hc : ¬ qC_then ev a1 = 0 := (by unfold qC_then; simp only [tw_ok3_0]; simp_all); exact ⟨by rw [kA, if_neg hc], by rw [kW, if_neg hc]; exact hT⟩) (Nat.le_of_ble_eq_true rfl) (Nat.le_of_ble_eq_true rfl) dX4_newestThen_17
def qA_holderThen (lg : Int → Int) (a1 a2 a3 : Int) : Int := if tw_isBranch (gRun lg a1.toNat) a2 a3 = true then tw_holderOf (gRun lg a1.toNat) a2 a3 else -1
theorem hn_X4_holderThen : yX4_holderThen.cls ≠ "java/lang/invoke/MethodHandle" ∧ yX4_holderThen.cls ≠ "java/lang/invoke/VarHandle" ∧ (parseMethodDescriptor yX4_holderThen.desc).map (fun d => d.parameters.length) = some 3 := by decide +kernel
theorem hd_X4_holderThen : yX4_holderThen.cls = "CheckoutDeskModel" ∧ yX4_holderThen.cls ≠ "java/lang/invoke/MethodHandle" ∧ yX4_holderThen.cls ≠ "java/lang/invoke/VarHandle" ∧ (parseMethodDescriptor yX4_holderThen.desc).map (fun d => d.parameters.length) = some 3 := ⟨rfl, hn_X4_holderThen⟩
abbrev rm_X4_holderThen : Room := { frames := 9, cells := 0, slots := 0, locals := 204 }
set_option maxHeartbeats 1000000 in
theorem tc_holderThen (l : Launch) {G : zG} {t : zTau} {w kp lg hr : Int → Int} {ev th : Int} {H0 : Heap} (hT : zT G t w kp lg hr ev 0 th H0) {a1 a2 a3 : Int} (ha1 : inR a1) (ha2 : inR a2) (ha3 : inR a3) (hOK : gOK lg ev) : zM l yX4_holderThen (ws_ yX4_holderThen cX4_holderThen 5 (some .int)) rm_X4_holderThen G (zTw t H0) [.ref t.1, .int (iI a1), .int (iI a2), .int (iI a3)] H0 (fun r H1 => r = some (.int (iI (kA (qC_then ev a1) (qA_holderThen lg a1 a2 a3)))) ∧ zT G t w (kW (qC_then ev a1) kp w) lg hr ev 0 (qC_then ev a1) H1) (fun _ => False) := by
  refine z_enter (by decide +kernel) (Nat.le_of_ble_eq_true rfl) ?_
  intro p e s m args below meth c ls hx hb hret hml hown hts hlocks htab hnm hK hH hl
  subst hH
  have hAn : ∀ q, s.heap.size ≤ q → zTw t s.heap q := fun _ h => Or.inr h
  have hTA : ∀ q, zTA t q → zTw t s.heap q := fun _ h => Or.inl h
  have hS : va_S (zTw t s.heap) s.heap s.heap [] := va_S.rf
  have hl : lv_has ls 5 [(0, .ref t.1), (1, .int (iI a1)), (2, .int (iI a2)), (3, .int (iI a3))] := hl
  have hrd := hT.2.2.2.2.2.2.2.2.2.2.2
  have hev := hT.2.2.2.2.2.2.2.2.2.2.1
  have hwR := hT.2.2.2.2.2.2.1
  refine lv_aload_n hx hb dX4_holderThen_0 rfl (lv_at hl 0 rfl) ?_
  refine lv_iload_n hx hb dX4_holderThen_1 rfl (lv_at hl 1 rfl) ?_
  refine lv_iconst (v := iI 0) hx hb dX4_holderThen_2 rfl ?_
  refine lv_aload_n hx hb dX4_holderThen_3 rfl (lv_at hl 0 rfl) ?_
  refine z_get (k := 4) hx hb hts in_X4 hown hK hT.1 rfl (by decide) q2335 rfl (v := .int (iI ev)) rfl dX4_holderThen_4 ?_
  refine z_callp (vx_runS (As := [.int (iI a1), .int (iI 0), .int (iI ev)]) (rest := [.ref t.1]) ⟨hx, hb, hml, hown, hts⟩ (tc_lies l (v := a1) (low := 0) (high := ev) (by first | with_reducible assumption | omega | exact ⟨by omega, by omega⟩ | omega) (by first | with_reducible assumption | omega | exact ⟨by omega, by omega⟩ | omega) (by first | with_reducible assumption | omega | exact ⟨by omega, by omega⟩ | omega)) (va_cwS 3 hts (lw_S q2365 q2366 q49 q2367) rfl rfl rfl hn_X4_lies ⟨Nat.le_of_ble_eq_true rfl, Nat.le_of_ble_eq_true rfl⟩) (z_preS hK hS (zN_le hAn hS)) rfl rfl hl.1 rfl (lv_room (Nat.le_of_ble_eq_true rfl)) dX4_holderThen_7 ⟨Nat.le_of_ble_eq_true rfl, Nat.le_of_ble_eq_true rfl⟩) hS (zN_le hAn hS) rfl rfl (fun locs hS => ?_)
  refine z_callm (v := .int (iI (bI (tw_lies a1 0 ev)))) (P := (fun H1 => zT G t w kp lg hr ev 0 (tw_ok3 (tw_lies a1 0 ev) true true) H1)) (vx_runV (As := [.int (iI (bI (tw_lies a1 0 ev)))]) (rest := []) ⟨hx, hb, hml, hown, hts⟩ (tc_ok_3 l hT (ba := tw_lies a1 0 ev)) (cwV 1 hts (lw_V q2384 q2386 qs14 q49 q2387) rfl rfl rfl hd_X4_ok_3 ⟨Nat.le_of_ble_eq_true rfl, Nat.le_of_ble_eq_true rfl⟩) (z_preV hK hS (zTw_le hTA hAn hS) hT.1 rfl rfl) rfl rfl hl.1 rfl (lv_room (Nat.le_of_ble_eq_true rfl)) dX4_holderThen_10 ⟨Nat.le_of_ble_eq_true rfl, Nat.le_of_ble_eq_true rfl⟩) hS (zTw_le hTA hAn hS) rfl rfl (fun H locs hT hS => ?_)
  refine z_ifb_ne (b := tw_lies a1 0 ev) (tgt := 18) hx hb dX4_holderThen_13 (by decide) (fun c_1 => ?_) (fun c_1 => ?_)
  · have hle := tw_lies_iff.mp c_1
    have hOKa : gOK lg a1 := fun k hk => hOK k (by omega)
    have hIr := gInv hOKa a1.toNat (by omega)
    obtain ⟨hD2, hV2, hL2, hB2, -, -, -, -, hBr2, -⟩ := hIr
    refine lv_aload_n hx hb dX4_holderThen_18 rfl (lv_at hl 0 rfl) ?_
    refine lv_iload_n hx hb dX4_holderThen_19 rfl (lv_at hl 1 rfl) ?_
    refine z_callmv (P := (fun H1 => zT G t (gRun lg (a1).toNat) w lg hr ev 0 (tw_rth (tw_ok3 (tw_lies a1 0 ev) true true) (a1).toNat) H1)) (vx_runV (As := [.int (iI a1)]) (rest := []) ⟨hx, hb, hml, hown, hts⟩ (tc_redo l hT (a1 := a1) (by first | with_reducible assumption | omega | exact ⟨by omega, by omega⟩ | omega) (by first | with_reducible assumption | omega | exact ⟨by omega, by omega⟩ | omega)) (cwV 1 hts (lw_V q2611 q2613 qs35 q49 q2614) rfl rfl rfl hd_X4_redo ⟨Nat.le_of_ble_eq_true rfl, Nat.le_of_ble_eq_true rfl⟩) (z_preV hK hS (zTw_le hTA hAn hS) hT.1 rfl rfl) rfl rfl hl.1 rfl (lv_room (Nat.le_of_ble_eq_true rfl)) dX4_holderThen_20 ⟨Nat.le_of_ble_eq_true rfl, Nat.le_of_ble_eq_true rfl⟩) hS (zTw_le hTA hAn hS) rfl rfl (fun H locs hT hS => ?_)
    refine lv_aload_n hx hb dX4_holderThen_23 rfl (lv_at hl 0 rfl) ?_
    refine lv_iload_n hx hb dX4_holderThen_24 rfl (lv_at hl 2 rfl) ?_
    refine lv_iload_n hx hb dX4_holderThen_25 rfl (lv_at hl 3 rfl) ?_
    refine z_callp (vx_runV (As := [.int (iI a2), .int (iI a3)]) (rest := []) ⟨hx, hb, hml, hown, hts⟩ (tc_isBranch l hT (d := a2) (b := a3) (by first | with_reducible assumption | omega | exact ⟨by omega, by omega⟩ | omega) (by first | with_reducible assumption | omega | exact ⟨by omega, by omega⟩ | omega) (by first | with_reducible assumption | omega | exact ⟨by omega, by omega⟩ | omega) (by first | with_reducible assumption | omega | exact ⟨by omega, by omega⟩ | omega)) (cwV 2 hts (lw_V q2424 q2426 qs18 q49 q2427) rfl rfl rfl hd_X4_isBranch ⟨Nat.le_of_ble_eq_true rfl, Nat.le_of_ble_eq_true rfl⟩) (z_preV hK hS (zN_le hAn hS) hT.1 rfl rfl) rfl rfl hl.1 rfl (lv_room (Nat.le_of_ble_eq_true rfl)) dX4_holderThen_26 ⟨Nat.le_of_ble_eq_true rfl, Nat.le_of_ble_eq_true rfl⟩) hS (zN_le hAn hS) rfl rfl (fun locs hS => ?_)
    refine z_join (pc2 := 42) (nL := 5) (lv := [(0, .ref t.1), (1, .int (iI a1)), (2, .int (iI a2)), (3, .int (iI a3))]) (st2 := [.int (iI (if (tw_isBranch (gRun lg (a1).toNat) a2 a3) = true then tw_holderOf (gRun lg (a1).toNat) a2 a3 else (-1)))]) hS (fun J_2 => ?_) (fun locs ls hS hl => ?_)
    · refine z_ifb_eq (b := tw_isBranch (gRun lg (a1).toNat) a2 a3) (tgt := 41) hx hb dX4_holderThen_29 (by decide) (fun c_3 => ?_) (fun c_3 => ?_)
      · refine lv_iconst (v := iI (-1)) hx hb dX4_holderThen_41 rfl ?_
        refine z_top (x := (-1)) (y := if (tw_isBranch (gRun lg (a1).toNat) a2 a3) = true then tw_holderOf (gRun lg (a1).toNat) a2 a3 else (-1)) (by simp [bI, c_3]) ?_
        exact J_2 _ ls hS (lv_sub hl [0, 1, 2, 3] rfl)
      · obtain ⟨hd, hbx⟩ := tw_isBranch_iff.mp c_3
        have hb3 := hB2 _ hd.1 hd.2
        obtain ⟨hho, -⟩ := hBr2 _ _ hd.1 hd.2 hbx.1 hbx.2
        refine lv_aload_n hx hb dX4_holderThen_32 rfl (lv_at hl 0 rfl) ?_
        refine lv_iload_n hx hb dX4_holderThen_33 rfl (lv_at hl 2 rfl) ?_
        refine lv_iload_n hx hb dX4_holderThen_34 rfl (lv_at hl 3 rfl) ?_
        refine z_callp (vx_runV (As := [.int (iI a2), .int (iI a3)]) (rest := []) ⟨hx, hb, hml, hown, hts⟩ (tc_holderOf l hT (d := a2) (b := a3) (by first | with_reducible assumption | omega | exact ⟨by omega, by omega⟩ | omega) (by first | with_reducible assumption | omega | exact ⟨by omega, by omega⟩ | omega)) (cwV 2 hts (lw_V q2461 q2463 qs26 q49 q2464) rfl rfl rfl hd_X4_holderOf ⟨Nat.le_of_ble_eq_true rfl, Nat.le_of_ble_eq_true rfl⟩) (z_preV hK hS (zN_le hAn hS) hT.1 rfl rfl) rfl rfl hl.1 rfl (lv_room (Nat.le_of_ble_eq_true rfl)) dX4_holderThen_35 ⟨Nat.le_of_ble_eq_true rfl, Nat.le_of_ble_eq_true rfl⟩) hS (zN_le hAn hS) rfl rfl (fun locs hS => ?_)
        refine lv_goto (tgt := 42) hx hb dX4_holderThen_38 (by decide) ?_
        refine z_top (x := tw_holderOf (gRun lg (a1).toNat) a2 a3) (y := if (tw_isBranch (gRun lg (a1).toNat) a2 a3) = true then tw_holderOf (gRun lg (a1).toNat) a2 a3 else (-1)) (by simp [bI, c_3]) ?_
        exact J_2 _ ls hS (lv_sub hl [0, 1, 2, 3] rfl)
    · refine lv_istore (lv' := [(4, .int (iI (if (tw_isBranch (gRun lg (a1).toNat) a2 a3) = true then tw_holderOf (gRun lg (a1).toNat) a2 a3 else (-1)))), (0, .ref t.1), (1, .int (iI a1)), (2, .int (iI a2)), (3, .int (iI a3))]) hx hb dX4_holderThen_42 hl (by decide) rfl (fun ls hl => ?_)
      refine lv_aload_n hx hb dX4_holderThen_44 rfl (lv_at hl 1 rfl) ?_
      refine z_callmv (P := (fun H1 => zT G t w w lg hr ev 0 (tw_rth (tw_ok3 (tw_lies a1 0 ev) true true) (a1).toNat) H1)) (vx_runV (As := []) (rest := []) ⟨hx, hb, hml, hown, hts⟩ (tc_back l hT ) (cwV 0 hts (lw_V q2647 q2649 qs40 q49 q2650) rfl rfl rfl hd_X4_back ⟨Nat.le_of_ble_eq_true rfl, Nat.le_of_ble_eq_true rfl⟩) (z_preV hK hS (zTw_le hTA hAn hS) hT.1 rfl rfl) rfl rfl hl.1 rfl (lv_room (Nat.le_of_ble_eq_true rfl)) dX4_holderThen_45 ⟨Nat.le_of_ble_eq_true rfl, Nat.le_of_ble_eq_true rfl⟩) hS (zTw_le hTA hAn hS) rfl rfl (fun H locs hT hS => ?_)
      refine lv_aload_n hx hb dX4_holderThen_48 rfl (lv_at hl 1 rfl) ?_
      refine lv_iconst (v := iI 0) hx hb dX4_holderThen_49 rfl ?_
      refine zt_th (x := 0) hx hb hts hown hK q2337 hT hTA hS dX4_holderThen_50 (fun H locs hT hS => ?_)
      refine lv_iload hx hb dX4_holderThen_53 (lv_at hl 0 rfl) ?_
      exact z_iret hx hb hret rfl hlocks hS (by have hc : qC_then ev a1 = 0 := (by unfold qC_then; simp only [tw_ok3_0]; simp_all); exact ⟨by rw [kA, if_pos hc]; rfl, by rw [kW, if_pos hc, hc]; exact hT⟩) (Nat.le_of_ble_eq_true rfl) (Nat.le_of_ble_eq_true rfl) dX4_holderThen_55
  · refine lv_iconst (v := iI 0) hx hb dX4_holderThen_16 rfl ?_
    exact z_iret hx hb hret rfl hlocks hS (by have hc : ¬ qC_then ev a1 = 0 := (by unfold qC_then; simp only [tw_ok3_0]; simp_all); exact ⟨by rw [kA, if_neg hc], by rw [kW, if_neg hc]; exact hT⟩) (Nat.le_of_ble_eq_true rfl) (Nat.le_of_ble_eq_true rfl) dX4_holderThen_17
theorem hn_X4_isSame : yX4_isSame.cls ≠ "java/lang/invoke/MethodHandle" ∧ yX4_isSame.cls ≠ "java/lang/invoke/VarHandle" ∧ (parseMethodDescriptor yX4_isSame.desc).map (fun d => d.parameters.length) = some 2 := by decide +kernel
theorem hd_X4_isSame : yX4_isSame.cls = "CheckoutDeskModel" ∧ yX4_isSame.cls ≠ "java/lang/invoke/MethodHandle" ∧ yX4_isSame.cls ≠ "java/lang/invoke/VarHandle" ∧ (parseMethodDescriptor yX4_isSame.desc).map (fun d => d.parameters.length) = some 2 := ⟨rfl, hn_X4_isSame⟩
abbrev rm_X4_isSame : Room := { frames := 1, cells := 0, slots := 0, locals := 16 }
set_option maxHeartbeats 1000000 in
theorem tc_isSame (l : Launch) {G : zG} {t : zTau} {w lg hr : Int → Int} {ev rd th : Int} {H0 : Heap} (hT : zT G t w w lg hr ev rd th H0) {a1 a2 : Int} (h1 : 0 ≤ a1) (h2 : 0 ≤ a2) (h3 : a1 + a2 ≤ 873) : zM l yX4_isSame (ws_ yX4_isSame cX4_isSame 4 (some .boolean)) rm_X4_isSame G (zTw t H0) [.ref t.1, .int (iI a1), .int (iI a2)] H0 (fun r H1 => r = some (.int (iI (bI true))) ∧ zT G t w w lg hr ev rd th H1) (fun _ => False) := by
  refine z_enter (by decide +kernel) (Nat.le_of_ble_eq_true rfl) ?_
  intro p e s m args below meth c ls hx hb hret hml hown hts hlocks htab hnm hK hH hl
  subst hH
  have hAn : ∀ q, s.heap.size ≤ q → zTw t s.heap q := fun _ h => Or.inr h
  have hTA : ∀ q, zTA t q → zTw t s.heap q := fun _ h => Or.inl h
  have hS : va_S (zTw t s.heap) s.heap s.heap [] := va_S.rf
  have hl : lv_has ls 4 [(0, .ref t.1), (1, .int (iI a1)), (2, .int (iI a2))] := hl
  have hrd := hT.2.2.2.2.2.2.2.2.2.2.2
  have hev := hT.2.2.2.2.2.2.2.2.2.2.1
  have hwR := hT.2.2.2.2.2.2.1
  refine lv_iload_n hx hb dX4_isSame_0 rfl (lv_at hl 1 rfl) ?_
  refine lv_istore_n (lv' := [(3, .int (iI a1)), (0, .ref t.1), (1, .int (iI a1)), (2, .int (iI a2))]) hx hb dX4_isSame_1 rfl hl (by decide) rfl (fun ls hl => ?_)
  refine z_loopH (A := zTw t s.heap) (H0 := s.heap) (nL := 4) (hd := 2) (fun i_1 : Nat => [(3, .int (iI (a1 + ((i_1 : Nat) : Int)))), (0, .ref t.1), (1, .int (iI a1)), (2, .int (iI a2))]) (fun (i_1 : Nat) (H : Heap) => (i_1 : Int) ≤ a2 ∧ zT G t w w lg hr ev rd th H) (fun _ => 0) (fun _ => 0) (fun i_1 : Nat => (a2 : Int).toNat - i_1) (fun i_1 H locs hi_1 hS ih_2 ls hl => ?_) 0 _ _ ?_ hS ls (z_lvren (lv_sub hl [0, 1, 2, 3] rfl) (by simp [lv_pick]))
  · have hl : lv_has ls 4 [(3, .int (iI (a1 + ((i_1 : Nat) : Int)))), (0, .ref t.1), (1, .int (iI a1)), (2, .int (iI a2))] := hl
    obtain ⟨hi_1, hT⟩ : (i_1 : Int) ≤ a2 ∧ zT G t w w lg hr ev rd th H := hi_1
    refine lv_iload_n hx hb dX4_isSame_2 rfl (lv_at hl 0 rfl) ?_
    refine lv_iload_n hx hb dX4_isSame_3 rfl (lv_at hl 2 rfl) ?_
    refine lv_iload_n hx hb dX4_isSame_4 rfl (lv_at hl 3 rfl) ?_
    refine z_iadd (x := a1) (y := a2) hx hb dX4_isSame_5 ?_
    refine z_icmp_ge (x := a1 + ((i_1 : Nat) : Int)) (y := a1 + a2) (tgt := 32) hx hb (by first | with_reducible assumption | omega | exact ⟨by omega, by omega⟩) (by first | with_reducible assumption | omega | exact ⟨by omega, by omega⟩) dX4_isSame_6 (by decide) (fun c_3 => ?_) (fun c_3 => ?_)
    · refine lv_iconst (v := iI 1) hx hb dX4_isSame_32 rfl ?_
      exact z_iret hx hb hret rfl hlocks hS ⟨rfl, hT⟩ (Nat.le_of_ble_eq_true rfl) (Nat.le_of_ble_eq_true rfl) dX4_isSame_33
    · refine lv_aload_n hx hb dX4_isSame_9 rfl (lv_at hl 1 rfl) ?_
      refine z_get (k := 0) hx hb hts in_X4 hown hK hT.1 rfl (by decide) q2331 rfl (v := .ref t.2.1) rfl dX4_isSame_10 ?_
      refine lv_iload_n hx hb dX4_isSame_13 rfl (lv_at hl 0 rfl) ?_
      refine z_ildZ (i := a1 + ((i_1 : Nat) : Int)) (f := w) hx hb hK hT.2.1 ⟨by omega, by omega⟩ (by decide) dX4_isSame_14 ?_
      have r_4 : inR (w (a1 + ((i_1 : Nat) : Int))) := hT.2.2.2.2.2.2.1 (a1 + ((i_1 : Nat) : Int))
      refine lv_aload_n hx hb dX4_isSame_15 rfl (lv_at hl 1 rfl) ?_
      refine z_get (k := 1) hx hb hts in_X4 hown hK hT.1 rfl (by decide) q2332 rfl (v := .ref t.2.2.1) rfl dX4_isSame_16 ?_
      refine lv_iload_n hx hb dX4_isSame_19 rfl (lv_at hl 0 rfl) ?_
      refine z_ildZ (i := a1 + ((i_1 : Nat) : Int)) (f := w) hx hb hK hT.2.2.1 ⟨by omega, by omega⟩ (by decide) dX4_isSame_20 ?_
      have r_5 : inR (w (a1 + ((i_1 : Nat) : Int))) := hT.2.2.2.2.2.2.2.1 (a1 + ((i_1 : Nat) : Int))
      refine z_icmp_eq (x := w (a1 + ((i_1 : Nat) : Int))) (y := w (a1 + ((i_1 : Nat) : Int))) (tgt := 26) hx hb (by first | with_reducible assumption | omega | exact ⟨by omega, by omega⟩) (by first | with_reducible assumption | omega | exact ⟨by omega, by omega⟩) dX4_isSame_21 (by decide) (fun c_6 => ?_) (fun c_6 => ?_)
      · refine lv_iinc (v := iI (a1 + ((i_1 : Nat) : Int) + 1)) (lv' := [(3, .int (iI (a1 + ((i_1 : Nat) : Int) + 1))), (0, .ref t.1), (1, .int (iI a1)), (2, .int (iI a2))]) hx hb dX4_isSame_26 hl (k := 0) rfl (iI_add _ _) (by decide) rfl (fun ls hl => ?_)
        refine lv_goto (tgt := 2) hx hb dX4_isSame_29 (by decide) ?_
        exact ih_2 (i_1 + 1) _ _ ⟨by omega, hT⟩ hS (by omega) ls (z_lvren (lv_sub hl [0, 1, 2, 3] rfl) (by simp [lv_pick, Int.add_assoc]))
      · exact absurd rfl c_6
  · exact ⟨by omega, hT⟩
theorem tw_op_sees {w : Int → Int} {k p : Int} : ∀ n : Nat, tw_op w k p n ≠ -1 → tw_sees w p (tw_op w k p n) = true
  | 0, h => absurd rfl h
  | n + 1, h => by
    unfold tw_op at h ⊢
    split
    · rename_i h2
      simp only [Bool.and_eq_true] at h2
      exact h2.1.2.1
    · rename_i h2
      rw [if_neg h2] at h
      exact tw_op_sees n h
theorem tw_opens_sees {w : Int → Int} {k p : Int} (h : ¬ tw_opens w k p = -1) : tw_sees w p (tw_opens w k p) = true := by
  unfold tw_opens at h ⊢
  split
  · rename_i h2
    rw [if_pos h2] at h
    split
    · assumption
    · rename_i h3
      rw [if_neg h3] at h
      exact absurd rfl h
  · rename_i h2
    rw [if_neg h2] at h
    exact tw_op_sees _ h
theorem hn_X4_deskErrors : yX4_deskErrors.cls ≠ "java/lang/invoke/MethodHandle" ∧ yX4_deskErrors.cls ≠ "java/lang/invoke/VarHandle" ∧ (parseMethodDescriptor yX4_deskErrors.desc).map (fun d => d.parameters.length) = some 0 := by decide +kernel
theorem hd_X4_deskErrors : yX4_deskErrors.cls = "CheckoutDeskModel" ∧ yX4_deskErrors.cls ≠ "java/lang/invoke/MethodHandle" ∧ yX4_deskErrors.cls ≠ "java/lang/invoke/VarHandle" ∧ (parseMethodDescriptor yX4_deskErrors.desc).map (fun d => d.parameters.length) = some 0 := ⟨rfl, hn_X4_deskErrors⟩
abbrev rm_X4_deskErrors : Room := { frames := 9, cells := 0, slots := 0, locals := 204 }
set_option maxHeartbeats 1000000 in
theorem tc_deskErrors (l : Launch) {G : zG} {t : zTau} {w kp lg hr : Int → Int} {ev th : Int} {H0 : Heap} (hT : zT G t w kp lg hr ev 0 th H0) (hOK : gOK lg ev) (hrun : gRun lg ev.toNat = w) {n_ : Int} (hI : tInv n_ w) : zM l yX4_deskErrors (ws_ yX4_deskErrors cX4_deskErrors 5 (some .int)) rm_X4_deskErrors G (zTw t H0) [.ref t.1] H0 (fun r H1 => r = some (.int (iI 0)) ∧ zT G t w w lg hr ev 0 0 H1) (fun _ => False) := by
  refine z_enter (by decide +kernel) (Nat.le_of_ble_eq_true rfl) ?_
  intro p e s m args below meth c ls hx hb hret hml hown hts hlocks htab hnm hK hH hl
  subst hH
  have hAn : ∀ q, s.heap.size ≤ q → zTw t s.heap q := fun _ h => Or.inr h
  have hTA : ∀ q, zTA t q → zTw t s.heap q := fun _ h => Or.inl h
  have hS : va_S (zTw t s.heap) s.heap s.heap [] := va_S.rf
  have hl : lv_has ls 5 [(0, .ref t.1)] := hl
  have hrd := hT.2.2.2.2.2.2.2.2.2.2.2
  have hev := hT.2.2.2.2.2.2.2.2.2.2.1
  have hwR := hT.2.2.2.2.2.2.1
  obtain ⟨hD, hV, hL, hB, hVd, hLk, hClk, hDoc, hBr, hVer, hLnk, hNew, hFr⟩ := hI
  refine lv_aload_n hx hb dX4_deskErrors_0 rfl (lv_at hl 0 rfl) ?_
  refine lv_aload_n hx hb dX4_deskErrors_1 rfl (lv_at hl 0 rfl) ?_
  refine z_get (k := 4) hx hb hts in_X4 hown hK hT.1 rfl (by decide) q2335 rfl (v := .int (iI ev)) rfl dX4_deskErrors_2 ?_
  refine z_callmv (P := (fun H1 => zT G t (gRun lg (ev).toNat) w lg hr ev 0 (tw_rth th (ev).toNat) H1)) (vx_runV (As := [.int (iI ev)]) (rest := []) ⟨hx, hb, hml, hown, hts⟩ (tc_redo l hT (a1 := ev) (by first | with_reducible assumption | omega | exact ⟨by omega, by omega⟩ | omega) (by first | with_reducible assumption | omega | exact ⟨by omega, by omega⟩ | omega)) (cwV 1 hts (lw_V q2611 q2613 qs35 q49 q2614) rfl rfl rfl hd_X4_redo ⟨Nat.le_of_ble_eq_true rfl, Nat.le_of_ble_eq_true rfl⟩) (z_preV hK hS (zTw_le hTA hAn hS) hT.1 rfl rfl) rfl rfl hl.1 rfl (lv_room (Nat.le_of_ble_eq_true rfl)) dX4_deskErrors_5 ⟨Nat.le_of_ble_eq_true rfl, Nat.le_of_ble_eq_true rfl⟩) hS (zTw_le hTA hAn hS) rfl rfl (fun H locs hT hS => ?_)
  rw [hrun] at hT
  refine lv_iconst (v := iI 0) hx hb dX4_deskErrors_8 rfl ?_
  refine lv_istore_n (lv' := [(1, .int (iI 0)), (0, .ref t.1)]) hx hb dX4_deskErrors_9 rfl hl (by decide) rfl (fun ls hl => ?_)
  refine lv_iconst (v := iI 0) hx hb dX4_deskErrors_10 rfl ?_
  refine lv_istore_n (lv' := [(2, .int (iI 0)), (1, .int (iI 0)), (0, .ref t.1)]) hx hb dX4_deskErrors_11 rfl hl (by decide) rfl (fun ls hl => ?_)
  refine z_loopH (A := zTw t s.heap) (H0 := s.heap) (nL := 5) (hd := 12) (fun i_1 : Nat => [(1, .int (iI 0)), (2, .int (iI ((i_1 : Nat) : Int))), (0, .ref t.1)]) (fun (i_1 : Nat) (H : Heap) => (i_1 : Int) ≤ 60 ∧ zT G t w w lg hr ev 0 (tw_rth th (ev).toNat) H) (fun _ => 0) (fun _ => 0) (fun i_1 : Nat => (60 : Int).toNat - i_1) (fun i_1 H locs hi_1 hS ih_2 ls hl => ?_) 0 _ _ ?_ hS ls (z_lvren (lv_sub hl [1, 0, 2] rfl) (by rfl))
  · have hl : lv_has ls 5 [(1, .int (iI 0)), (2, .int (iI ((i_1 : Nat) : Int))), (0, .ref t.1)] := hl
    obtain ⟨hi_1, hT⟩ : (i_1 : Int) ≤ 60 ∧ zT G t w w lg hr ev 0 (tw_rth th (ev).toNat) H := hi_1
    refine lv_iload_n hx hb dX4_deskErrors_12 rfl (lv_at hl 1 rfl) ?_
    refine lv_bipush (v := iI 60) hx hb dX4_deskErrors_13 (by decide) ?_
    refine z_icmp_ge (x := ((i_1 : Nat) : Int)) (y := 60) (tgt := 45) hx hb (by first | with_reducible assumption | omega | exact ⟨by omega, by omega⟩) (by decide) dX4_deskErrors_15 (by decide) (fun c_3 => ?_) (fun c_3 => ?_)
    · refine lv_iconst (v := iI 0) hx hb dX4_deskErrors_45 rfl ?_
      refine lv_istore_n (lv' := [(2, .int (iI 0)), (1, .int (iI 0)), (0, .ref t.1)]) hx hb dX4_deskErrors_46 rfl hl (by decide) rfl (fun ls hl => ?_)
      refine z_loopH (A := zTw t s.heap) (H0 := s.heap) (nL := 5) (hd := 47) (fun i_4 : Nat => [(1, .int (iI 0)), (2, .int (iI ((i_4 : Nat) : Int))), (0, .ref t.1)]) (fun (i_4 : Nat) (H : Heap) => (i_4 : Int) ≤ w 2 ∧ zT G t w w lg hr ev 0 (tw_rth th (ev).toNat) H) (fun _ => 0) (fun _ => 0) (fun i_4 : Nat => (w 2 : Int).toNat - i_4) (fun i_4 H locs hi_4 hS ih_5 ls hl => ?_) 0 _ _ ?_ hS ls (z_lvren (lv_sub hl [1, 0, 2] rfl) (by rfl))
      · have hl : lv_has ls 5 [(1, .int (iI 0)), (2, .int (iI ((i_4 : Nat) : Int))), (0, .ref t.1)] := hl
        obtain ⟨hi_4, hT⟩ : (i_4 : Int) ≤ w 2 ∧ zT G t w w lg hr ev 0 (tw_rth th (ev).toNat) H := hi_4
        refine lv_iload_n hx hb dX4_deskErrors_47 rfl (lv_at hl 1 rfl) ?_
        refine lv_aload_n hx hb dX4_deskErrors_48 rfl (lv_at hl 2 rfl) ?_
        refine z_get (k := 0) hx hb hts in_X4 hown hK hT.1 rfl (by decide) q2331 rfl (v := .ref t.2.1) rfl dX4_deskErrors_49 ?_
        refine lv_iconst (v := iI 2) hx hb dX4_deskErrors_52 rfl ?_
        refine z_ildZ (i := 2) (f := w) hx hb hK hT.2.1 ⟨by omega, by omega⟩ (by decide) dX4_deskErrors_53 ?_
        have r_6 : inR (w 2) := hT.2.2.2.2.2.2.1 2
        refine z_icmp_ge (x := ((i_4 : Nat) : Int)) (y := w 2) (tgt := 84) hx hb (by first | with_reducible assumption | omega | exact ⟨by omega, by omega⟩) (by first | with_reducible assumption | omega | exact ⟨by omega, by omega⟩) dX4_deskErrors_54 (by decide) (fun c_7 => ?_) (fun c_7 => ?_)
        · refine lv_iconst (v := iI 0) hx hb dX4_deskErrors_84 rfl ?_
          refine lv_istore_n (lv' := [(2, .int (iI 0)), (1, .int (iI 0)), (0, .ref t.1)]) hx hb dX4_deskErrors_85 rfl hl (by decide) rfl (fun ls hl => ?_)
          refine z_loopH (A := zTw t s.heap) (H0 := s.heap) (nL := 5) (hd := 86) (fun i_8 : Nat => [(1, .int (iI 0)), (2, .int (iI ((i_8 : Nat) : Int))), (0, .ref t.1)]) (fun (i_8 : Nat) (H : Heap) => (i_8 : Int) ≤ w 4 ∧ zT G t w w lg hr ev 0 (tw_rth th (ev).toNat) H) (fun _ => 0) (fun _ => 0) (fun i_8 : Nat => (w 4 : Int).toNat - i_8) (fun i_8 H locs hi_8 hS ih_9 ls hl => ?_) 0 _ _ ?_ hS ls (z_lvren (lv_sub hl [1, 0, 2] rfl) (by rfl))
          · have hl : lv_has ls 5 [(1, .int (iI 0)), (2, .int (iI ((i_8 : Nat) : Int))), (0, .ref t.1)] := hl
            obtain ⟨hi_8, hT⟩ : (i_8 : Int) ≤ w 4 ∧ zT G t w w lg hr ev 0 (tw_rth th (ev).toNat) H := hi_8
            refine lv_iload_n hx hb dX4_deskErrors_86 rfl (lv_at hl 1 rfl) ?_
            refine lv_aload_n hx hb dX4_deskErrors_87 rfl (lv_at hl 2 rfl) ?_
            refine z_get (k := 0) hx hb hts in_X4 hown hK hT.1 rfl (by decide) q2331 rfl (v := .ref t.2.1) rfl dX4_deskErrors_88 ?_
            refine lv_iconst (v := iI 4) hx hb dX4_deskErrors_91 rfl ?_
            refine z_ildZ (i := 4) (f := w) hx hb hK hT.2.1 ⟨by omega, by omega⟩ (by decide) dX4_deskErrors_92 ?_
            have r_10 : inR (w 4) := hT.2.2.2.2.2.2.1 4
            refine z_icmp_ge (x := ((i_8 : Nat) : Int)) (y := w 4) (tgt := 125) hx hb (by first | with_reducible assumption | omega | exact ⟨by omega, by omega⟩) (by first | with_reducible assumption | omega | exact ⟨by omega, by omega⟩) dX4_deskErrors_93 (by decide) (fun c_11 => ?_) (fun c_11 => ?_)
            · refine lv_aload_n hx hb dX4_deskErrors_125 rfl (lv_at hl 2 rfl) ?_
              refine z_callmv (P := (fun H1 => zT G t w w lg hr ev 0 (tw_rth th (ev).toNat) H1)) (vx_runV (As := []) (rest := []) ⟨hx, hb, hml, hown, hts⟩ (tc_back l hT ) (cwV 0 hts (lw_V q2647 q2649 qs40 q49 q2650) rfl rfl rfl hd_X4_back ⟨Nat.le_of_ble_eq_true rfl, Nat.le_of_ble_eq_true rfl⟩) (z_preV hK hS (zTw_le hTA hAn hS) hT.1 rfl rfl) rfl rfl hl.1 rfl (lv_room (Nat.le_of_ble_eq_true rfl)) dX4_deskErrors_126 ⟨Nat.le_of_ble_eq_true rfl, Nat.le_of_ble_eq_true rfl⟩) hS (zTw_le hTA hAn hS) rfl rfl (fun H locs hT hS => ?_)
              refine lv_iconst (v := iI 0) hx hb dX4_deskErrors_129 rfl ?_
              refine lv_istore_n (lv' := [(2, .int (iI 0)), (1, .int (iI 0)), (0, .ref t.1)]) hx hb dX4_deskErrors_130 rfl hl (by decide) rfl (fun ls hl => ?_)
              refine z_loop (H0 := s.heap) (nL := 5) (hd := 131) (fun i_12 : Nat => [(1, .int (iI 0)), (2, .int (iI ((i_12 : Nat) : Int))), (0, .ref t.1)]) (fun i_12 : Nat => (i_12 : Int) ≤ w 4) (fun i_12 : Nat => (w 4 : Int).toNat - i_12) (fun i_12 locs hi_12 hS ih_13 ls hl => ?_) 0 _ ?_ hS ls (z_lvren (lv_sub hl [1, 0, 2] rfl) (by rfl))
              · have hl : lv_has ls 5 [(1, .int (iI 0)), (2, .int (iI ((i_12 : Nat) : Int))), (0, .ref t.1)] := hl
                have hi_12 : (i_12 : Int) ≤ w 4 := hi_12
                refine lv_iload_n hx hb dX4_deskErrors_131 rfl (lv_at hl 1 rfl) ?_
                refine lv_aload_n hx hb dX4_deskErrors_132 rfl (lv_at hl 2 rfl) ?_
                refine z_get (k := 0) hx hb hts in_X4 hown hK hT.1 rfl (by decide) q2331 rfl (v := .ref t.2.1) rfl dX4_deskErrors_133 ?_
                refine lv_iconst (v := iI 4) hx hb dX4_deskErrors_136 rfl ?_
                refine z_ildZ (i := 4) (f := w) hx hb hK hT.2.1 ⟨by omega, by omega⟩ (by decide) dX4_deskErrors_137 ?_
                have r_14 : inR (w 4) := hT.2.2.2.2.2.2.1 4
                refine z_icmp_ge (x := ((i_12 : Nat) : Int)) (y := w 4) (tgt := 193) hx hb (by first | with_reducible assumption | omega | exact ⟨by omega, by omega⟩) (by first | with_reducible assumption | omega | exact ⟨by omega, by omega⟩) dX4_deskErrors_138 (by decide) (fun c_15 => ?_) (fun c_15 => ?_)
                · refine lv_aload_n hx hb dX4_deskErrors_193 rfl (lv_at hl 2 rfl) ?_
                  refine lv_iconst (v := iI 0) hx hb dX4_deskErrors_194 rfl ?_
                  refine zt_th (x := 0) hx hb hts hown hK q2337 hT hTA hS dX4_deskErrors_195 (fun H locs hT hS => ?_)
                  refine lv_iload_n hx hb dX4_deskErrors_198 rfl (lv_at hl 0 rfl) ?_
                  exact z_iret hx hb hret rfl hlocks hS ⟨rfl, hT⟩ (Nat.le_of_ble_eq_true rfl) (Nat.le_of_ble_eq_true rfl) dX4_deskErrors_199
                · refine lv_iconst (v := iI 0) hx hb dX4_deskErrors_141 rfl ?_
                  refine lv_istore_n (lv' := [(3, .int (iI 0)), (1, .int (iI 0)), (2, .int (iI ((i_12 : Nat) : Int))), (0, .ref t.1)]) hx hb dX4_deskErrors_142 rfl hl (by decide) rfl (fun ls hl => ?_)
                  refine z_loop (H0 := s.heap) (nL := 5) (hd := 143) (fun i_16 : Nat => [(1, .int (iI 0)), (3, .int (iI ((i_16 : Nat) : Int))), (2, .int (iI ((i_12 : Nat) : Int))), (0, .ref t.1)]) (fun i_16 : Nat => (i_16 : Int) ≤ 6) (fun i_16 : Nat => (6 : Int).toNat - i_16) (fun i_16 locs hi_16 hS ih_17 ls hl => ?_) 0 _ ?_ hS ls (z_lvren (lv_sub hl [1, 0, 2, 3] rfl) (by rfl))
                  · have hl : lv_has ls 5 [(1, .int (iI 0)), (3, .int (iI ((i_16 : Nat) : Int))), (2, .int (iI ((i_12 : Nat) : Int))), (0, .ref t.1)] := hl
                    have hi_16 : (i_16 : Int) ≤ 6 := hi_16
                    refine lv_iload_n hx hb dX4_deskErrors_143 rfl (lv_at hl 1 rfl) ?_
                    refine lv_bipush (v := iI 6) hx hb dX4_deskErrors_144 (by decide) ?_
                    refine z_icmp_ge (x := ((i_16 : Nat) : Int)) (y := 6) (tgt := 187) hx hb (by first | with_reducible assumption | omega | exact ⟨by omega, by omega⟩) (by decide) dX4_deskErrors_146 (by decide) (fun c_18 => ?_) (fun c_18 => ?_)
                    · refine lv_iinc (v := iI (((i_12 : Nat) : Int) + 1)) (lv' := [(2, .int (iI (((i_12 : Nat) : Int) + 1))), (1, .int (iI 0)), (3, .int (iI ((i_16 : Nat) : Int))), (0, .ref t.1)]) hx hb dX4_deskErrors_187 hl (k := 2) rfl (iI_add _ _) (by decide) rfl (fun ls hl => ?_)
                      refine lv_goto (tgt := 131) hx hb dX4_deskErrors_190 (by decide) ?_
                      exact ih_13 (i_12 + 1) locs (by omega) hS (by omega) ls (z_lvren (lv_sub hl [1, 0, 3] rfl) (by first | rfl | simp))
                    · refine lv_aload_n hx hb dX4_deskErrors_149 rfl (lv_at hl 3 rfl) ?_
                      refine lv_iload_n hx hb dX4_deskErrors_150 rfl (lv_at hl 2 rfl) ?_
                      refine lv_iload_n hx hb dX4_deskErrors_151 rfl (lv_at hl 1 rfl) ?_
                      refine z_callp (vx_runV (As := [.int (iI ((i_12 : Nat) : Int)), .int (iI ((i_16 : Nat) : Int))]) (rest := []) ⟨hx, hb, hml, hown, hts⟩ (tc_opens l hT (k := ((i_12 : Nat) : Int)) (p_ := ((i_16 : Nat) : Int)) (by first | with_reducible assumption | omega | exact ⟨by omega, by omega⟩ | omega) (by first | with_reducible assumption | omega | exact ⟨by omega, by omega⟩ | omega) (by first | with_reducible assumption | omega | exact ⟨by omega, by omega⟩ | omega) (by first | with_reducible assumption | omega | exact ⟨by omega, by omega⟩ | omega) (by first | with_reducible assumption | omega | exact ⟨by omega, by omega⟩ | omega) (by first | with_reducible assumption | omega | exact ⟨by omega, by omega⟩ | omega) (by first | with_reducible assumption | omega | exact ⟨by omega, by omega⟩ | omega)) (cwV 2 hts (lw_V q2583 q2585 qs34 q49 q2586) rfl rfl rfl hd_X4_opens ⟨Nat.le_of_ble_eq_true rfl, Nat.le_of_ble_eq_true rfl⟩) (z_preV hK hS (zN_le hAn hS) hT.1 rfl rfl) rfl rfl hl.1 rfl (lv_room (Nat.le_of_ble_eq_true rfl)) dX4_deskErrors_152 ⟨Nat.le_of_ble_eq_true rfl, Nat.le_of_ble_eq_true rfl⟩) hS (zN_le hAn hS) rfl rfl (fun locs hS => ?_)
                      refine lv_istore (lv' := [(4, .int (iI (tw_opens w ((i_12 : Nat) : Int) ((i_16 : Nat) : Int)))), (1, .int (iI 0)), (3, .int (iI ((i_16 : Nat) : Int))), (2, .int (iI ((i_12 : Nat) : Int))), (0, .ref t.1)]) hx hb dX4_deskErrors_155 hl (by decide) rfl (fun ls hl => ?_)
                      refine lv_iload_n hx hb dX4_deskErrors_157 rfl (lv_at hl 1 rfl) ?_
                      refine lv_iload hx hb dX4_deskErrors_158 (lv_at hl 0 rfl) ?_
                      refine lv_iconst (v := iI (-1)) hx hb dX4_deskErrors_160 rfl ?_
                      refine z_join (pc2 := 179) (nL := 5) (lv := [(4, .int (iI (tw_opens w ((i_12 : Nat) : Int) ((i_16 : Nat) : Int)))), (1, .int (iI 0)), (3, .int (iI ((i_16 : Nat) : Int))), (2, .int (iI ((i_12 : Nat) : Int))), (0, .ref t.1)]) (st2 := [.int (iI 0), .int (iI 0)]) hS (fun J_19 => ?_) (fun locs ls hS hl => ?_)
                      · refine z_icmp_eq (x := tw_opens w ((i_12 : Nat) : Int) ((i_16 : Nat) : Int)) (y := (-1)) (tgt := 178) hx hb (tw_opens_inR (by with_reducible assumption) ⟨by omega, by omega⟩ (by with_reducible assumption)) (by decide) dX4_deskErrors_161 (by decide) (fun c_20 => ?_) (fun c_20 => ?_)
                        · refine lv_iconst (v := iI 0) hx hb dX4_deskErrors_178 rfl ?_
                          exact J_19 _ ls hS (lv_sub hl [0, 1, 2, 3, 4] rfl)
                        · have hop := tw_opens_R (k := ((i_12 : Nat) : Int)) (p := ((i_16 : Nat) : Int)) hV ⟨by omega, by omega⟩ hLk
                          have hvd := hVd _ (show 0 ≤ tw_opens w ((i_12 : Nat) : Int) ((i_16 : Nat) : Int) by omega) (by omega)
                          refine lv_aload_n hx hb dX4_deskErrors_164 rfl (lv_at hl 4 rfl) ?_
                          refine lv_iload_n hx hb dX4_deskErrors_165 rfl (lv_at hl 2 rfl) ?_
                          refine lv_iload hx hb dX4_deskErrors_166 (lv_at hl 0 rfl) ?_
                          refine z_callp (vx_runV (As := [.int (iI ((i_16 : Nat) : Int)), .int (iI (tw_opens w ((i_12 : Nat) : Int) ((i_16 : Nat) : Int)))]) (rest := [.int (iI 0)]) ⟨hx, hb, hml, hown, hts⟩ (tc_sees l hT (p_ := ((i_16 : Nat) : Int)) (v := tw_opens w ((i_12 : Nat) : Int) ((i_16 : Nat) : Int)) (by first | with_reducible assumption | omega | exact ⟨by omega, by omega⟩ | omega) (by first | with_reducible assumption | omega | exact ⟨by omega, by omega⟩ | omega) (by first | with_reducible assumption | omega | exact ⟨by omega, by omega⟩ | omega)) (cwV 2 hts (lw_V q2513 q2515 qs31 q49 q2516) rfl rfl rfl hd_X4_sees ⟨Nat.le_of_ble_eq_true rfl, Nat.le_of_ble_eq_true rfl⟩) (z_preV hK hS (zN_le hAn hS) hT.1 rfl rfl) rfl rfl hl.1 rfl (lv_room (Nat.le_of_ble_eq_true rfl)) dX4_deskErrors_168 ⟨Nat.le_of_ble_eq_true rfl, Nat.le_of_ble_eq_true rfl⟩) hS (zN_le hAn hS) rfl rfl (fun locs hS => ?_)
                          refine z_ifb_ne (b := tw_sees w ((i_16 : Nat) : Int) (tw_opens w ((i_12 : Nat) : Int) ((i_16 : Nat) : Int))) (tgt := 178) hx hb dX4_deskErrors_171 (by decide) (fun c_21 => ?_) (fun c_21 => ?_)
                          · refine lv_iconst (v := iI 0) hx hb dX4_deskErrors_178 rfl ?_
                            exact J_19 _ ls hS (lv_sub hl [0, 1, 2, 3, 4] rfl)
                          · exact absurd (tw_opens_sees (by assumption)) (by rw [c_21]; decide)
                      · refine z_iadd0 hx hb dX4_deskErrors_179 ?_
                        refine lv_istore_n (lv' := [(1, .int (iI 0)), (4, .int (iI (tw_opens w ((i_12 : Nat) : Int) ((i_16 : Nat) : Int)))), (3, .int (iI ((i_16 : Nat) : Int))), (2, .int (iI ((i_12 : Nat) : Int))), (0, .ref t.1)]) hx hb dX4_deskErrors_180 rfl hl (by decide) rfl (fun ls hl => ?_)
                        refine lv_iinc (v := iI (((i_16 : Nat) : Int) + 1)) (lv' := [(3, .int (iI (((i_16 : Nat) : Int) + 1))), (1, .int (iI 0)), (4, .int (iI (tw_opens w ((i_12 : Nat) : Int) ((i_16 : Nat) : Int)))), (2, .int (iI ((i_12 : Nat) : Int))), (0, .ref t.1)]) hx hb dX4_deskErrors_181 hl (k := 2) rfl (iI_add _ _) (by decide) rfl (fun ls hl => ?_)
                        refine lv_goto (tgt := 143) hx hb dX4_deskErrors_184 (by decide) ?_
                        exact ih_17 (i_16 + 1) locs (by omega) hS (by omega) ls (z_lvren (lv_sub hl [1, 0, 3, 4] rfl) (by first | rfl | simp))
                  · exact by omega
              · exact by omega
            · refine lv_iload_n hx hb dX4_deskErrors_96 rfl (lv_at hl 0 rfl) ?_
              refine lv_aload_n hx hb dX4_deskErrors_97 rfl (lv_at hl 2 rfl) ?_
              refine lv_sipush (v := iI 801) hx hb dX4_deskErrors_98 (by decide) ?_
              refine lv_iconst (v := iI 3) hx hb dX4_deskErrors_101 rfl ?_
              refine lv_iload_n hx hb dX4_deskErrors_102 rfl (lv_at hl 1 rfl) ?_
              refine z_imul (x := 3) (y := ((i_8 : Nat) : Int)) hx hb dX4_deskErrors_103 ?_
              refine z_iadd (x := 801) (y := 3 * ((i_8 : Nat) : Int)) hx hb dX4_deskErrors_104 ?_
              refine lv_iconst (v := iI 3) hx hb dX4_deskErrors_105 rfl ?_
              refine z_callm (v := .int (iI (bI true))) (P := (fun H1 => zT G t w w lg hr ev 0 (tw_rth th (ev).toNat) H1)) (vx_runV (As := [.int (iI (801 + 3 * ((i_8 : Nat) : Int))), .int (iI 3)]) (rest := [.int (iI 0)]) ⟨hx, hb, hml, hown, hts⟩ (tc_isSame l hT (a1 := 801 + 3 * ((i_8 : Nat) : Int)) (a2 := 3) (by first | with_reducible assumption | omega | exact ⟨by omega, by omega⟩ | omega) (by first | with_reducible assumption | omega | exact ⟨by omega, by omega⟩ | omega) (by first | with_reducible assumption | omega | exact ⟨by omega, by omega⟩ | omega)) (cwV 2 hts (lw_V q2659 q2661 qs41 q49 q2662) rfl rfl rfl hd_X4_isSame ⟨Nat.le_of_ble_eq_true rfl, Nat.le_of_ble_eq_true rfl⟩) (z_preV hK hS (zTw_le hTA hAn hS) hT.1 rfl rfl) rfl rfl hl.1 rfl (lv_room (Nat.le_of_ble_eq_true rfl)) dX4_deskErrors_106 ⟨Nat.le_of_ble_eq_true rfl, Nat.le_of_ble_eq_true rfl⟩) hS (zTw_le hTA hAn hS) rfl rfl (fun H locs hT hS => ?_)
              refine z_ifb_eq (b := true) (tgt := 116) hx hb dX4_deskErrors_109 (by decide) (fun c_22 => ?_) (fun c_22 => ?_)
              · exact absurd c_22 (by decide)
              · refine lv_iconst (v := iI 0) hx hb dX4_deskErrors_112 rfl ?_
                refine lv_goto (tgt := 117) hx hb dX4_deskErrors_113 (by decide) ?_
                refine z_iadd0 hx hb dX4_deskErrors_117 ?_
                refine lv_istore_n (lv' := [(1, .int (iI 0)), (2, .int (iI ((i_8 : Nat) : Int))), (0, .ref t.1)]) hx hb dX4_deskErrors_118 rfl hl (by decide) rfl (fun ls hl => ?_)
                refine lv_iinc (v := iI (((i_8 : Nat) : Int) + 1)) (lv' := [(2, .int (iI (((i_8 : Nat) : Int) + 1))), (1, .int (iI 0)), (0, .ref t.1)]) hx hb dX4_deskErrors_119 hl (k := 1) rfl (iI_add _ _) (by decide) rfl (fun ls hl => ?_)
                refine lv_goto (tgt := 86) hx hb dX4_deskErrors_122 (by decide) ?_
                exact ih_9 (i_8 + 1) _ _ ⟨by omega, hT⟩ hS (by omega) ls (z_lvren (lv_sub hl [1, 0, 2] rfl) (by first | rfl | simp))
          · exact ⟨by omega, hT⟩
        · refine lv_iload_n hx hb dX4_deskErrors_57 rfl (lv_at hl 0 rfl) ?_
          refine lv_aload_n hx hb dX4_deskErrors_58 rfl (lv_at hl 2 rfl) ?_
          refine lv_iload_n hx hb dX4_deskErrors_59 rfl (lv_at hl 1 rfl) ?_
          refine z_callp (vx_runS (As := [.int (iI ((i_4 : Nat) : Int))]) (rest := [.ref t.1, .int (iI 0)]) ⟨hx, hb, hml, hown, hts⟩ (tc_doc l (d := ((i_4 : Nat) : Int))) (va_cwS 1 hts (lw_S q2395 q2396 q49 q2397) rfl rfl rfl hn_X4_doc ⟨Nat.le_of_ble_eq_true rfl, Nat.le_of_ble_eq_true rfl⟩) (z_preS hK hS (zN_le hAn hS)) rfl rfl hl.1 rfl (lv_room (Nat.le_of_ble_eq_true rfl)) dX4_deskErrors_60 ⟨Nat.le_of_ble_eq_true rfl, Nat.le_of_ble_eq_true rfl⟩) hS (zN_le hAn hS) rfl rfl (fun locs hS => ?_)
          refine lv_bipush (v := iI 32) hx hb dX4_deskErrors_63 (by decide) ?_
          refine z_callm (v := .int (iI (bI true))) (P := (fun H1 => zT G t w w lg hr ev 0 (tw_rth th (ev).toNat) H1)) (vx_runV (As := [.int (iI (5 + 32 * ((i_4 : Nat) : Int))), .int (iI 32)]) (rest := [.int (iI 0)]) ⟨hx, hb, hml, hown, hts⟩ (tc_isSame l hT (a1 := 5 + 32 * ((i_4 : Nat) : Int)) (a2 := 32) (by first | with_reducible assumption | omega | exact ⟨by omega, by omega⟩ | omega) (by first | with_reducible assumption | omega | exact ⟨by omega, by omega⟩ | omega) (by first | with_reducible assumption | omega | exact ⟨by omega, by omega⟩ | omega)) (cwV 2 hts (lw_V q2659 q2661 qs41 q49 q2662) rfl rfl rfl hd_X4_isSame ⟨Nat.le_of_ble_eq_true rfl, Nat.le_of_ble_eq_true rfl⟩) (z_preV hK hS (zTw_le hTA hAn hS) hT.1 rfl rfl) rfl rfl hl.1 rfl (lv_room (Nat.le_of_ble_eq_true rfl)) dX4_deskErrors_65 ⟨Nat.le_of_ble_eq_true rfl, Nat.le_of_ble_eq_true rfl⟩) hS (zTw_le hTA hAn hS) rfl rfl (fun H locs hT hS => ?_)
          refine z_ifb_eq (b := true) (tgt := 75) hx hb dX4_deskErrors_68 (by decide) (fun c_23 => ?_) (fun c_23 => ?_)
          · exact absurd c_23 (by decide)
          · refine lv_iconst (v := iI 0) hx hb dX4_deskErrors_71 rfl ?_
            refine lv_goto (tgt := 76) hx hb dX4_deskErrors_72 (by decide) ?_
            refine z_iadd0 hx hb dX4_deskErrors_76 ?_
            refine lv_istore_n (lv' := [(1, .int (iI 0)), (2, .int (iI ((i_4 : Nat) : Int))), (0, .ref t.1)]) hx hb dX4_deskErrors_77 rfl hl (by decide) rfl (fun ls hl => ?_)
            refine lv_iinc (v := iI (((i_4 : Nat) : Int) + 1)) (lv' := [(2, .int (iI (((i_4 : Nat) : Int) + 1))), (1, .int (iI 0)), (0, .ref t.1)]) hx hb dX4_deskErrors_78 hl (k := 1) rfl (iI_add _ _) (by decide) rfl (fun ls hl => ?_)
            refine lv_goto (tgt := 47) hx hb dX4_deskErrors_81 (by decide) ?_
            exact ih_5 (i_4 + 1) _ _ ⟨by omega, hT⟩ hS (by omega) ls (z_lvren (lv_sub hl [1, 0, 2] rfl) (by first | rfl | simp))
      · exact ⟨by omega, hT⟩
    · refine lv_iload_n hx hb dX4_deskErrors_18 rfl (lv_at hl 0 rfl) ?_
      refine lv_aload_n hx hb dX4_deskErrors_19 rfl (lv_at hl 2 rfl) ?_
      refine lv_iload_n hx hb dX4_deskErrors_20 rfl (lv_at hl 1 rfl) ?_
      refine z_callp (vx_runS (As := [.int (iI ((i_1 : Nat) : Int))]) (rest := [.ref t.1, .int (iI 0)]) ⟨hx, hb, hml, hown, hts⟩ (tc_ver l (v := ((i_1 : Nat) : Int))) (va_cwS 1 hts (lw_S q2405 q2406 q49 q2407) rfl rfl rfl hn_X4_ver ⟨Nat.le_of_ble_eq_true rfl, Nat.le_of_ble_eq_true rfl⟩) (z_preS hK hS (zN_le hAn hS)) rfl rfl hl.1 rfl (lv_room (Nat.le_of_ble_eq_true rfl)) dX4_deskErrors_21 ⟨Nat.le_of_ble_eq_true rfl, Nat.le_of_ble_eq_true rfl⟩) hS (zN_le hAn hS) rfl rfl (fun locs hS => ?_)
      refine lv_bipush (v := iI 9) hx hb dX4_deskErrors_24 (by decide) ?_
      refine z_callm (v := .int (iI (bI true))) (P := (fun H1 => zT G t w w lg hr ev 0 (tw_rth th (ev).toNat) H1)) (vx_runV (As := [.int (iI (261 + 9 * ((i_1 : Nat) : Int))), .int (iI 9)]) (rest := [.int (iI 0)]) ⟨hx, hb, hml, hown, hts⟩ (tc_isSame l hT (a1 := 261 + 9 * ((i_1 : Nat) : Int)) (a2 := 9) (by first | with_reducible assumption | omega | exact ⟨by omega, by omega⟩ | omega) (by first | with_reducible assumption | omega | exact ⟨by omega, by omega⟩ | omega) (by first | with_reducible assumption | omega | exact ⟨by omega, by omega⟩ | omega)) (cwV 2 hts (lw_V q2659 q2661 qs41 q49 q2662) rfl rfl rfl hd_X4_isSame ⟨Nat.le_of_ble_eq_true rfl, Nat.le_of_ble_eq_true rfl⟩) (z_preV hK hS (zTw_le hTA hAn hS) hT.1 rfl rfl) rfl rfl hl.1 rfl (lv_room (Nat.le_of_ble_eq_true rfl)) dX4_deskErrors_26 ⟨Nat.le_of_ble_eq_true rfl, Nat.le_of_ble_eq_true rfl⟩) hS (zTw_le hTA hAn hS) rfl rfl (fun H locs hT hS => ?_)
      refine z_ifb_eq (b := true) (tgt := 36) hx hb dX4_deskErrors_29 (by decide) (fun c_24 => ?_) (fun c_24 => ?_)
      · exact absurd c_24 (by decide)
      · refine lv_iconst (v := iI 0) hx hb dX4_deskErrors_32 rfl ?_
        refine lv_goto (tgt := 37) hx hb dX4_deskErrors_33 (by decide) ?_
        refine z_iadd0 hx hb dX4_deskErrors_37 ?_
        refine lv_istore_n (lv' := [(1, .int (iI 0)), (2, .int (iI ((i_1 : Nat) : Int))), (0, .ref t.1)]) hx hb dX4_deskErrors_38 rfl hl (by decide) rfl (fun ls hl => ?_)
        refine lv_iinc (v := iI (((i_1 : Nat) : Int) + 1)) (lv' := [(2, .int (iI (((i_1 : Nat) : Int) + 1))), (1, .int (iI 0)), (0, .ref t.1)]) hx hb dX4_deskErrors_39 hl (k := 1) rfl (iI_add _ _) (by decide) rfl (fun ls hl => ?_)
        refine lv_goto (tgt := 12) hx hb dX4_deskErrors_42 (by decide) ?_
        exact ih_2 (i_1 + 1) _ _ ⟨by omega, hT⟩ hS (by omega) ls (z_lvren (lv_sub hl [1, 0, 2] rfl) (by first | rfl | simp))
  · exact ⟨by omega, hT⟩

