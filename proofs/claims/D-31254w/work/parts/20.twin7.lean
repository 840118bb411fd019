set_option maxRecDepth 100000
def gC (w : Int → Int) (k a b c d e : Int) : Int := if k = 0 then tC_pass w a else if k = 1 then tC_setLapse w a else if k = 2 then tC_create w a b else if k = 3 then tC_grant w a b c d else if k = 4 then tC_checkOut w a b c else if k = 5 then tC_edit w a b c d e else if k = 6 then tC_checkIn w a b c (decide (d = 1)) else if k = 7 then tC_renew w a b c else if k = 8 then tC_cancel w a b c else if k = 9 then tC_promote w a b c else if k = 10 then tC_prune w a b c else if k = 11 then tC_branchOff w a b else if k = 12 then tC_merge w a b c else if k = 13 then tC_linkVersion w a b c else if k = 14 then tC_linkDocument w a b c d else tC_unlink w a b
def gW (w : Int → Int) (k a b c d e : Int) : Int → Int := if k = 0 then tW_pass w a else if k = 1 then tW_setLapse w a else if k = 2 then tW_create w a b else if k = 3 then tW_grant w a b c d else if k = 4 then tW_checkOut w a b c else if k = 5 then tW_edit w a b c d e else if k = 6 then tW_checkIn w a b c (decide (d = 1)) else if k = 7 then tW_renew w a b c else if k = 8 then tW_cancel w a b c else if k = 9 then tW_promote w a b c else if k = 10 then tW_prune w a b c else if k = 11 then tW_branchOff w a b else if k = 12 then tW_merge w a b c else if k = 13 then tW_linkVersion w a b c else if k = 14 then tW_linkDocument w a b c d else tW_unlink w a b
def gA (w : Int → Int) (k a b c d e : Int) : Int := if k = 0 then tA_pass w a else if k = 1 then tA_setLapse w a else if k = 2 then tA_create w a b else if k = 3 then tA_grant w a b c d else if k = 4 then tA_checkOut w a b c else if k = 5 then tA_edit w a b c d e else if k = 6 then tA_checkIn w a b c (decide (d = 1)) else if k = 7 then tA_renew w a b c else if k = 8 then tA_cancel w a b c else if k = 9 then tA_promote w a b c else if k = 10 then tA_prune w a b c else if k = 11 then tA_branchOff w a b else if k = 12 then tA_merge w a b c else if k = 13 then tA_linkVersion w a b c else if k = 14 then tA_linkDocument w a b c d else tA_unlink w a b
/-- the row behind the first n acts of a log -/
def gRun (lg : Int → Int) : Nat → Int → Int
  | 0 => tw_w0
  | n + 1 => gW (gRun lg n) (lg (6 * n)) (lg (6 * n + 1)) (lg (6 * n + 2)) (lg (6 * n + 3)) (lg (6 * n + 4)) (lg (6 * n + 5))
/-- the first n acts of a log can be done -/
def gOK (lg : Int → Int) (n : Int) : Prop := ∀ k : Nat, (k : Int) < n → (0 ≤ lg (6 * k) ∧ lg (6 * k) ≤ 15) ∧ gC (gRun lg k) (lg (6 * k)) (lg (6 * k + 1)) (lg (6 * k + 2)) (lg (6 * k + 3)) (lg (6 * k + 4)) (lg (6 * k + 5)) = 0
theorem gInv_step {n : Int} {w : Int → Int} {k a b c d e : Int} (h : tInv n w) (hk : 0 ≤ k ∧ k ≤ 15) (hc : gC w k a b c d e = 0) : tInv (n + 1) (gW w k a b c d e) := sorry
theorem gInv_0 : tInv 0 tw_w0 := sorry
theorem gInv {lg : Int → Int} {n : Int} (h : gOK lg n) : ∀ k : Nat, (k : Int) ≤ n → tInv k (gRun lg k)
  | 0, _ => gInv_0
  | k + 1, hk => by
    have h1 := gInv h k (by omega)
    have h2 := h k (by omega)
    exact gInv_step h1 h2.1 h2.2
theorem kL1 {code ev k a b c d e : Int} {lg : Int → Int} : kL 1 code ev lg k a b c d e = lg := if_neg (fun q => absurd q.2 (by decide))
theorem kH1 {code ev h : Int} {hr : Int → Int} : kH 1 code ev hr h = hr := if_neg (fun q => absurd q.2 (by decide))
theorem kE1 {code ev : Int} : kE 1 code ev = ev := if_neg (fun q => absurd q.2 (by decide))
theorem z_osw {x d a1 o1 a2 o2 : Int} (h1 : ¬ x = a1) (h2 : ¬ x = a2) : Op.lookupswitch.offset [(a1, o1), (a2, o2)] d x = d := by
  rw [Op.lookupswitch.offset_cons, if_neg (fun q => h1 q.symm), Op.lookupswitch.offset_cons, if_neg (fun q => h2 q.symm)]
  rfl
def tw_rth (th : Int) : Nat → Int
  | 0 => th
  | _ + 1 => 0
theorem hn_X4_documentAct : yX4_documentAct.cls ≠ "java/lang/invoke/MethodHandle" ∧ yX4_documentAct.cls ≠ "java/lang/invoke/VarHandle" ∧ (parseMethodDescriptor yX4_documentAct.desc).map (fun d => d.parameters.length) = some 5 := by decide +kernel
theorem hd_X4_documentAct : yX4_documentAct.cls = "CheckoutDeskModel" ∧ yX4_documentAct.cls ≠ "java/lang/invoke/MethodHandle" ∧ yX4_documentAct.cls ≠ "java/lang/invoke/VarHandle" ∧ (parseMethodDescriptor yX4_documentAct.desc).map (fun d => d.parameters.length) = some 5 := ⟨rfl, hn_X4_documentAct⟩
abbrev rm_X4_documentAct : Room := { frames := 6, cells := 0, slots := 0, locals := 129 }
set_option maxHeartbeats 1000000 in
theorem tc_documentAct (l : Launch) {G : zG} {t : zTau} {w kp lg hr : Int → Int} {ev th : Int} {H0 : Heap} (hT : zT G t w kp lg hr ev 1 th H0) {a1 a2 a3 a4 a5 : Int} (ha1 : inR a1) (ha2 : inR a2) (ha3 : inR a3) (ha4 : inR a4) (ha5 : inR a5) (hk : 0 ≤ a1 ∧ a1 ≤ 6 ∧ a1 ≠ 5) {n_ : Int} (hI : tInv n_ w) (hn_ : n_ < 2000) : zM l yX4_documentAct (ws_ yX4_documentAct cX4_documentAct 6 (some .int)) rm_X4_documentAct G (zTw t H0) [.ref t.1, .int (iI a1), .int (iI a2), .int (iI a3), .int (iI a4), .int (iI a5)] H0 (fun r H1 => r = some (.int (iI (kA (gC w a1 a2 a3 a4 a5 0) (gA w a1 a2 a3 a4 a5 0)))) ∧ zT G t (kW (gC w a1 a2 a3 a4 a5 0) w (gW w a1 a2 a3 a4 a5 0)) kp lg hr ev 1 (gC w a1 a2 a3 a4 a5 0) H1) (fun _ => False) := by
  refine z_enter (by decide +kernel) (Nat.le_of_ble_eq_true rfl) ?_
  intro p e s m args below meth c ls hx hb hret hml hown hts hlocks htab hnm hK hH hl
  subst hH
  have hAn : ∀ q, s.heap.size ≤ q → zTw t s.heap q := fun _ h => Or.inr h
  have hTA : ∀ q, zTA t q → zTw t s.heap q := fun _ h => Or.inl h
  have hS : va_S (zTw t s.heap) s.heap s.heap [] := va_S.rf
  have hl : lv_has ls 6 [(0, .ref t.1), (1, .int (iI a1)), (2, .int (iI a2)), (3, .int (iI a3)), (4, .int (iI a4)), (5, .int (iI a5))] := hl
  have hrd := hT.2.2.2.2.2.2.2.2.2.2.2
  have hev := hT.2.2.2.2.2.2.2.2.2.2.1
  have hwR := hT.2.2.2.2.2.2.1
  have hev2 : (1 : Int) = 0 → ev < 2000 := fun q => absurd q (by decide)
  refine lv_iload_n hx hb dX4_documentAct_0 rfl (lv_at hl 1 rfl) ?_
  by_cases c_1 : a1 = 0
  · refine z_top (x := a1) (y := 0) c_1 ?_
    refine lv_tableIn (x := iI 0) (tgt := 36) hx hb dX4_documentAct_1 (by decide) (by decide) rfl (by decide) ?_
    refine lv_aload_n hx hb dX4_documentAct_36 rfl (lv_at hl 0 rfl) ?_
    refine lv_iload_n hx hb dX4_documentAct_37 rfl (lv_at hl 2 rfl) ?_
    refine z_callm (v := .int (iI (kA (tC_pass w a2) (tA_pass w a2)))) (P := (fun H1 => zT G t (kW (tC_pass w a2) w (tW_pass w a2)) kp (kL 1 (tC_pass w a2) ev lg 0 a2 0 0 0 0) (kH 1 (tC_pass w a2) ev hr (tW_pass w a2 0)) (kE 1 (tC_pass w a2) ev) 1 (tC_pass w a2) H1)) (vx_runV (As := [.int (iI a2)]) (rest := []) ⟨hx, hb, hml, hown, hts⟩ (tc_pass l hT (a1 := a2) (by first | with_reducible assumption | omega | exact ⟨by omega, by omega⟩ | omega) (by first | with_reducible assumption | omega | exact ⟨by omega, by omega⟩ | omega) (by first | with_reducible assumption | omega | exact ⟨by omega, by omega⟩ | omega) (by first | with_reducible assumption | omega | exact ⟨by omega, by omega⟩ | omega)) (cwV 1 hts (lw_V q2624 q2362 q2363 q49 q2364) rfl rfl rfl hd_X4_pass ⟨Nat.le_of_ble_eq_true rfl, Nat.le_of_ble_eq_true rfl⟩) (z_preV hK hS (zTw_le hTA hAn hS) hT.1 rfl rfl) rfl rfl hl.1 rfl (lv_room (Nat.le_of_ble_eq_true rfl)) dX4_documentAct_38 ⟨Nat.le_of_ble_eq_true rfl, Nat.le_of_ble_eq_true rfl⟩) hS (zTw_le hTA hAn hS) rfl rfl (fun H locs hT hS => ?_)
    exact z_iret hx hb hret rfl hlocks hS (by have hk0 : a1 = 0 := (by omega); subst hk0; rw [kL1, kH1, kE1] at hT; exact ⟨rfl, hT⟩) (Nat.le_of_ble_eq_true rfl) (Nat.le_of_ble_eq_true rfl) dX4_documentAct_41
  ·
    by_cases c_2 : a1 = 1
    · refine z_top (x := a1) (y := 1) c_2 ?_
      refine lv_tableIn (x := iI 1) (tgt := 42) hx hb dX4_documentAct_1 (by decide) (by decide) rfl (by decide) ?_
      refine lv_aload_n hx hb dX4_documentAct_42 rfl (lv_at hl 0 rfl) ?_
      refine lv_iload_n hx hb dX4_documentAct_43 rfl (lv_at hl 2 rfl) ?_
      refine z_callm (v := .int (iI (kA (tC_setLapse w a2) (tA_setLapse w a2)))) (P := (fun H1 => zT G t (kW (tC_setLapse w a2) w (tW_setLapse w a2)) kp (kL 1 (tC_setLapse w a2) ev lg 1 a2 0 0 0 0) (kH 1 (tC_setLapse w a2) ev hr (tW_setLapse w a2 0)) (kE 1 (tC_setLapse w a2) ev) 1 (tC_setLapse w a2) H1)) (vx_runV (As := [.int (iI a2)]) (rest := []) ⟨hx, hb, hml, hown, hts⟩ (tc_setLapse l hT (a1 := a2) (by first | with_reducible assumption | omega | exact ⟨by omega, by omega⟩ | omega) (by first | with_reducible assumption | omega | exact ⟨by omega, by omega⟩ | omega) (by first | with_reducible assumption | omega | exact ⟨by omega, by omega⟩ | omega) (by first | with_reducible assumption | omega | exact ⟨by omega, by omega⟩ | omega)) (cwV 1 hts (lw_V q2625 q2381 q2382 q49 q2383) rfl rfl rfl hd_X4_setLapse ⟨Nat.le_of_ble_eq_true rfl, Nat.le_of_ble_eq_true rfl⟩) (z_preV hK hS (zTw_le hTA hAn hS) hT.1 rfl rfl) rfl rfl hl.1 rfl (lv_room (Nat.le_of_ble_eq_true rfl)) dX4_documentAct_44 ⟨Nat.le_of_ble_eq_true rfl, Nat.le_of_ble_eq_true rfl⟩) hS (zTw_le hTA hAn hS) rfl rfl (fun H locs hT hS => ?_)
      exact z_iret hx hb hret rfl hlocks hS (by have hk0 : a1 = 1 := (by omega); subst hk0; rw [kL1, kH1, kE1] at hT; exact ⟨rfl, hT⟩) (Nat.le_of_ble_eq_true rfl) (Nat.le_of_ble_eq_true rfl) dX4_documentAct_47
    ·
      by_cases c_3 : a1 = 2
      · refine z_top (x := a1) (y := 2) c_3 ?_
        refine lv_tableIn (x := iI 2) (tgt := 48) hx hb dX4_documentAct_1 (by decide) (by decide) rfl (by decide) ?_
        refine lv_aload_n hx hb dX4_documentAct_48 rfl (lv_at hl 0 rfl) ?_
        refine lv_iload_n hx hb dX4_documentAct_49 rfl (lv_at hl 2 rfl) ?_
        refine lv_iload_n hx hb dX4_documentAct_50 rfl (lv_at hl 3 rfl) ?_
        refine z_callm (v := .int (iI (kA (tC_create w a2 a3) (tA_create w a2 a3)))) (P := (fun H1 => zT G t (kW (tC_create w a2 a3) w (tW_create w a2 a3)) kp (kL 1 (tC_create w a2 a3) ev lg 2 a2 a3 0 0 0) (kH 1 (tC_create w a2 a3) ev hr (tW_create w a2 a3 0)) (kE 1 (tC_create w a2 a3) ev) 1 (tC_create w a2 a3) H1)) (vx_runV (As := [.int (iI a2), .int (iI a3)]) (rest := []) ⟨hx, hb, hml, hown, hts⟩ (tc_create l hT (a1 := a2) (a2 := a3) (by first | with_reducible assumption | omega | exact ⟨by omega, by omega⟩ | omega) (by first | with_reducible assumption | omega | exact ⟨by omega, by omega⟩ | omega) (by first | with_reducible assumption | omega | exact ⟨by omega, by omega⟩ | omega) (by first | with_reducible assumption | omega | exact ⟨by omega, by omega⟩ | omega) (by first | with_reducible assumption | omega | exact ⟨by omega, by omega⟩ | omega)) (cwV 2 hts (lw_V q2626 q2389 q2390 q49 q2391) rfl rfl rfl hd_X4_create ⟨Nat.le_of_ble_eq_true rfl, Nat.le_of_ble_eq_true rfl⟩) (z_preV hK hS (zTw_le hTA hAn hS) hT.1 rfl rfl) rfl rfl hl.1 rfl (lv_room (Nat.le_of_ble_eq_true rfl)) dX4_documentAct_51 ⟨Nat.le_of_ble_eq_true rfl, Nat.le_of_ble_eq_true rfl⟩) hS (zTw_le hTA hAn hS) rfl rfl (fun H locs hT hS => ?_)
        exact z_iret hx hb hret rfl hlocks hS (by have hk0 : a1 = 2 := (by omega); subst hk0; rw [kL1, kH1, kE1] at hT; exact ⟨rfl, hT⟩) (Nat.le_of_ble_eq_true rfl) (Nat.le_of_ble_eq_true rfl) dX4_documentAct_54
      ·
        by_cases c_4 : a1 = 3
        · refine z_top (x := a1) (y := 3) c_4 ?_
          refine lv_tableIn (x := iI 3) (tgt := 55) hx hb dX4_documentAct_1 (by decide) (by decide) rfl (by decide) ?_
          refine lv_aload_n hx hb dX4_documentAct_55 rfl (lv_at hl 0 rfl) ?_
          refine lv_iload_n hx hb dX4_documentAct_56 rfl (lv_at hl 2 rfl) ?_
          refine lv_iload_n hx hb dX4_documentAct_57 rfl (lv_at hl 3 rfl) ?_
          refine lv_iload hx hb dX4_documentAct_58 (lv_at hl 4 rfl) ?_
          refine lv_iload hx hb dX4_documentAct_60 (lv_at hl 5 rfl) ?_
          refine z_callm (v := .int (iI (kA (tC_grant w a2 a3 a4 a5) (tA_grant w a2 a3 a4 a5)))) (P := (fun H1 => zT G t (kW (tC_grant w a2 a3 a4 a5) w (tW_grant w a2 a3 a4 a5)) kp (kL 1 (tC_grant w a2 a3 a4 a5) ev lg 3 a2 a3 a4 a5 0) (kH 1 (tC_grant w a2 a3 a4 a5) ev hr (tW_grant w a2 a3 a4 a5 0)) (kE 1 (tC_grant w a2 a3 a4 a5) ev) 1 (tC_grant w a2 a3 a4 a5) H1)) (vx_runV (As := [.int (iI a2), .int (iI a3), .int (iI a4), .int (iI a5)]) (rest := []) ⟨hx, hb, hml, hown, hts⟩ (tc_grant l hT (a1 := a2) (a2 := a3) (a3 := a4) (a4 := a5) (by first | with_reducible assumption | omega | exact ⟨by omega, by omega⟩ | omega) (by first | with_reducible assumption | omega | exact ⟨by omega, by omega⟩ | omega) (by first | with_reducible assumption | omega | exact ⟨by omega, by omega⟩ | omega) (by first | with_reducible assumption | omega | exact ⟨by omega, by omega⟩ | omega) (by first | with_reducible assumption | omega | exact ⟨by omega, by omega⟩ | omega) (by first | with_reducible assumption | omega | exact ⟨by omega, by omega⟩ | omega) (by first | with_reducible assumption | omega | exact ⟨by omega, by omega⟩ | omega)) (cwV 4 hts (lw_V q2627 q2409 q2410 q49 q2411) rfl rfl rfl hd_X4_grant ⟨Nat.le_of_ble_eq_true rfl, Nat.le_of_ble_eq_true rfl⟩) (z_preV hK hS (zTw_le hTA hAn hS) hT.1 rfl rfl) rfl rfl hl.1 rfl (lv_room (Nat.le_of_ble_eq_true rfl)) dX4_documentAct_62 ⟨Nat.le_of_ble_eq_true rfl, Nat.le_of_ble_eq_true rfl⟩) hS (zTw_le hTA hAn hS) rfl rfl (fun H locs hT hS => ?_)
          exact z_iret hx hb hret rfl hlocks hS (by have hk0 : a1 = 3 := (by omega); subst hk0; rw [kL1, kH1, kE1] at hT; exact ⟨rfl, hT⟩) (Nat.le_of_ble_eq_true rfl) (Nat.le_of_ble_eq_true rfl) dX4_documentAct_65
        ·
          by_cases c_5 : a1 = 4
          · refine z_top (x := a1) (y := 4) c_5 ?_
            refine lv_tableIn (x := iI 4) (tgt := 66) hx hb dX4_documentAct_1 (by decide) (by decide) rfl (by decide) ?_
            refine lv_aload_n hx hb dX4_documentAct_66 rfl (lv_at hl 0 rfl) ?_
            refine lv_iload_n hx hb dX4_documentAct_67 rfl (lv_at hl 2 rfl) ?_
            refine lv_iload_n hx hb dX4_documentAct_68 rfl (lv_at hl 3 rfl) ?_
            refine lv_iload hx hb dX4_documentAct_69 (lv_at hl 4 rfl) ?_
            refine z_callm (v := .int (iI (kA (tC_checkOut w a2 a3 a4) (tA_checkOut w a2 a3 a4)))) (P := (fun H1 => zT G t (kW (tC_checkOut w a2 a3 a4) w (tW_checkOut w a2 a3 a4)) kp (kL 1 (tC_checkOut w a2 a3 a4) ev lg 4 a2 a3 a4 0 0) (kH 1 (tC_checkOut w a2 a3 a4) ev hr (tW_checkOut w a2 a3 a4 0)) (kE 1 (tC_checkOut w a2 a3 a4) ev) 1 (tC_checkOut w a2 a3 a4) H1)) (vx_runV (As := [.int (iI a2), .int (iI a3), .int (iI a4)]) (rest := []) ⟨hx, hb, hml, hown, hts⟩ (tc_checkOut l hT (a1 := a2) (a2 := a3) (a3 := a4) (by first | with_reducible assumption | omega | exact ⟨by omega, by omega⟩ | omega) (by first | with_reducible assumption | omega | exact ⟨by omega, by omega⟩ | omega) (by first | with_reducible assumption | omega | exact ⟨by omega, by omega⟩ | omega) (by first | with_reducible assumption | omega | exact ⟨by omega, by omega⟩ | omega) (by first | with_reducible assumption | omega | exact ⟨by omega, by omega⟩ | omega) (by first | with_reducible assumption | omega | exact ⟨by omega, by omega⟩ | omega)) (cwV 3 hts (lw_V q2628 q2421 q2422 q49 q2423) rfl rfl rfl hd_X4_checkOut ⟨Nat.le_of_ble_eq_true rfl, Nat.le_of_ble_eq_true rfl⟩) (z_preV hK hS (zTw_le hTA hAn hS) hT.1 rfl rfl) rfl rfl hl.1 rfl (lv_room (Nat.le_of_ble_eq_true rfl)) dX4_documentAct_71 ⟨Nat.le_of_ble_eq_true rfl, Nat.le_of_ble_eq_true rfl⟩) hS (zTw_le hTA hAn hS) rfl rfl (fun H locs hT hS => ?_)
            exact z_iret hx hb hret rfl hlocks hS (by have hk0 : a1 = 4 := (by omega); subst hk0; rw [kL1, kH1, kE1] at hT; exact ⟨rfl, hT⟩) (Nat.le_of_ble_eq_true rfl) (Nat.le_of_ble_eq_true rfl) dX4_documentAct_74
          ·
            refine lv_tableOut (x := iI a1) (tgt := 75) hx hb dX4_documentAct_1 (by rw [iI_toInt (by first | with_reducible assumption | omega | exact ⟨by omega, by omega⟩)]; omega) (by decide) ?_
            refine lv_aload_n hx hb dX4_documentAct_75 rfl (lv_at hl 0 rfl) ?_
            refine lv_iload_n hx hb dX4_documentAct_76 rfl (lv_at hl 2 rfl) ?_
            refine lv_iload_n hx hb dX4_documentAct_77 rfl (lv_at hl 3 rfl) ?_
            refine lv_iload hx hb dX4_documentAct_78 (lv_at hl 4 rfl) ?_
            refine lv_iload hx hb dX4_documentAct_80 (lv_at hl 5 rfl) ?_
            refine lv_iconst (v := iI 1) hx hb dX4_documentAct_82 rfl ?_
            refine z_join (pc2 := 91) (nL := 6) (lv := [(0, .ref t.1), (1, .int (iI a1)), (2, .int (iI a2)), (3, .int (iI a3)), (4, .int (iI a4)), (5, .int (iI a5))]) (st2 := [.int (iI (bI (decide (a5 = 1)))), .int (iI a4), .int (iI a3), .int (iI a2), .ref t.1]) hS (fun J_6 => ?_) (fun locs ls hS hl => ?_)
            · refine z_icmp_ne (x := a5) (y := 1) (tgt := 90) hx hb (by first | with_reducible assumption | omega | exact ⟨by omega, by omega⟩) (by decide) dX4_documentAct_83 (by decide) (fun c_7 => ?_) (fun c_7 => ?_)
              · refine lv_iconst (v := iI 0) hx hb dX4_documentAct_90 rfl ?_
                refine z_top (x := 0) (y := bI (decide (a5 = 1))) (by simp [bI, c_7]) ?_
                exact J_6 _ ls hS (lv_sub hl [0, 1, 2, 3, 4, 5] rfl)
              · refine lv_iconst (v := iI 1) hx hb dX4_documentAct_86 rfl ?_
                refine lv_goto (tgt := 91) hx hb dX4_documentAct_87 (by decide) ?_
                refine z_top (x := 1) (y := bI (decide (a5 = 1))) (by simp [bI, c_7]) ?_
                exact J_6 _ ls hS (lv_sub hl [0, 1, 2, 3, 4, 5] rfl)
            · refine z_callm (v := .int (iI (kA (tC_checkIn w a2 a3 a4 (decide (a5 = 1))) (tA_checkIn w a2 a3 a4 (decide (a5 = 1)))))) (P := (fun H1 => zT G t (kW (tC_checkIn w a2 a3 a4 (decide (a5 = 1))) w (tW_checkIn w a2 a3 a4 (decide (a5 = 1)))) kp (kL 1 (tC_checkIn w a2 a3 a4 (decide (a5 = 1))) ev lg 6 a2 a3 a4 (bI (decide (a5 = 1))) 0) (kH 1 (tC_checkIn w a2 a3 a4 (decide (a5 = 1))) ev hr (tW_checkIn w a2 a3 a4 (decide (a5 = 1)) 0)) (kE 1 (tC_checkIn w a2 a3 a4 (decide (a5 = 1))) ev) 1 (tC_checkIn w a2 a3 a4 (decide (a5 = 1))) H1)) (vx_runV (As := [.int (iI a2), .int (iI a3), .int (iI a4), .int (iI (bI (decide (a5 = 1))))]) (rest := []) ⟨hx, hb, hml, hown, hts⟩ (tc_checkIn l hT (a1 := a2) (a2 := a3) (a3 := a4) (ba4 := decide (a5 = 1)) (by first | with_reducible assumption | omega | exact ⟨by omega, by omega⟩ | omega) (by first | with_reducible assumption | omega | exact ⟨by omega, by omega⟩ | omega) (by first | with_reducible assumption | omega | exact ⟨by omega, by omega⟩ | omega) (by first | with_reducible assumption | omega | exact ⟨by omega, by omega⟩ | omega) (by first | with_reducible assumption | omega | exact ⟨by omega, by omega⟩ | omega) (by first | with_reducible assumption | omega | exact ⟨by omega, by omega⟩ | omega)) (cwV 4 hts (lw_V q2629 q2466 q2467 q49 q2468) rfl rfl rfl hd_X4_checkIn ⟨Nat.le_of_ble_eq_true rfl, Nat.le_of_ble_eq_true rfl⟩) (z_preV hK hS (zTw_le hTA hAn hS) hT.1 rfl rfl) rfl rfl hl.1 rfl (lv_room (Nat.le_of_ble_eq_true rfl)) dX4_documentAct_91 ⟨Nat.le_of_ble_eq_true rfl, Nat.le_of_ble_eq_true rfl⟩) hS (zTw_le hTA hAn hS) rfl rfl (fun H locs hT hS => ?_)
              exact z_iret hx hb hret rfl hlocks hS (by have hk0 : a1 = 6 := (by omega); subst hk0; rw [kL1, kH1, kE1] at hT; exact ⟨rfl, hT⟩) (Nat.le_of_ble_eq_true rfl) (Nat.le_of_ble_eq_true rfl) dX4_documentAct_94
theorem hn_X4_versionAct : yX4_versionAct.cls ≠ "java/lang/invoke/MethodHandle" ∧ yX4_versionAct.cls ≠ "java/lang/invoke/VarHandle" ∧ (parseMethodDescriptor yX4_versionAct.desc).map (fun d => d.parameters.length) = some 4 := by decide +kernel
theorem hd_X4_versionAct : yX4_versionAct.cls = "CheckoutDeskModel" ∧ yX4_versionAct.cls ≠ "java/lang/invoke/MethodHandle" ∧ yX4_versionAct.cls ≠ "java/lang/invoke/VarHandle" ∧ (parseMethodDescriptor yX4_versionAct.desc).map (fun d => d.parameters.length) = some 4 := ⟨rfl, hn_X4_versionAct⟩
abbrev rm_X4_versionAct : Room := { frames := 6, cells := 0, slots := 0, locals := 135 }
set_option maxHeartbeats 1000000 in
theorem tc_versionAct (l : Launch) {G : zG} {t : zTau} {w kp lg hr : Int → Int} {ev th : Int} {H0 : Heap} (hT : zT G t w kp lg hr ev 1 th H0) {a1 a2 a3 a4 : Int} (ha1 : inR a1) (ha2 : inR a2) (ha3 : inR a3) (ha4 : inR a4) (hk : 7 ≤ a1 ∧ a1 ≤ 12) {n_ : Int} (hI : tInv n_ w) (hn_ : n_ < 2000) : zM l yX4_versionAct (ws_ yX4_versionAct cX4_versionAct 5 (some .int)) rm_X4_versionAct G (zTw t H0) [.ref t.1, .int (iI a1), .int (iI a2), .int (iI a3), .int (iI a4)] H0 (fun r H1 => r = some (.int (iI (kA (gC w a1 a2 a3 a4 0 0) (gA w a1 a2 a3 a4 0 0)))) ∧ zT G t (kW (gC w a1 a2 a3 a4 0 0) w (gW w a1 a2 a3 a4 0 0)) kp lg hr ev 1 (gC w a1 a2 a3 a4 0 0) H1) (fun _ => False) := by
  refine z_enter (by decide +kernel) (Nat.le_of_ble_eq_true rfl) ?_
  intro p e s m args below meth c ls hx hb hret hml hown hts hlocks htab hnm hK hH hl
  subst hH
  have hAn : ∀ q, s.heap.size ≤ q → zTw t s.heap q := fun _ h => Or.inr h
  have hTA : ∀ q, zTA t q → zTw t s.heap q := fun _ h => Or.inl h
  have hS : va_S (zTw t s.heap) s.heap s.heap [] := va_S.rf
  have hl : lv_has ls 5 [(0, .ref t.1), (1, .int (iI a1)), (2, .int (iI a2)), (3, .int (iI a3)), (4, .int (iI a4))] := hl
  have hrd := hT.2.2.2.2.2.2.2.2.2.2.2
  have hev := hT.2.2.2.2.2.2.2.2.2.2.1
  have hwR := hT.2.2.2.2.2.2.1
  have hev2 : (1 : Int) = 0 → ev < 2000 := fun q => absurd q (by decide)
  refine lv_iload_n hx hb dX4_versionAct_0 rfl (lv_at hl 1 rfl) ?_
  by_cases c_1 : a1 = 7
  · refine z_top (x := a1) (y := 7) c_1 ?_
    refine lv_tableIn (x := iI 7) (tgt := 36) hx hb dX4_versionAct_1 (by decide) (by decide) rfl (by decide) ?_
    refine lv_aload_n hx hb dX4_versionAct_36 rfl (lv_at hl 0 rfl) ?_
    refine lv_iload_n hx hb dX4_versionAct_37 rfl (lv_at hl 2 rfl) ?_
    refine lv_iload_n hx hb dX4_versionAct_38 rfl (lv_at hl 3 rfl) ?_
    refine lv_iload hx hb dX4_versionAct_39 (lv_at hl 4 rfl) ?_
    refine z_callm (v := .int (iI (kA (tC_renew w a2 a3 a4) (tA_renew w a2 a3 a4)))) (P := (fun H1 => zT G t (kW (tC_renew w a2 a3 a4) w (tW_renew w a2 a3 a4)) kp (kL 1 (tC_renew w a2 a3 a4) ev lg 7 a2 a3 a4 0 0) (kH 1 (tC_renew w a2 a3 a4) ev hr (tW_renew w a2 a3 a4 0)) (kE 1 (tC_renew w a2 a3 a4) ev) 1 (tC_renew w a2 a3 a4) H1)) (vx_runV (As := [.int (iI a2), .int (iI a3), .int (iI a4)]) (rest := []) ⟨hx, hb, hml, hown, hts⟩ (tc_renew l hT (a1 := a2) (a2 := a3) (a3 := a4) (by first | with_reducible assumption | omega | exact ⟨by omega, by omega⟩ | omega) (by first | with_reducible assumption | omega | exact ⟨by omega, by omega⟩ | omega) (by first | with_reducible assumption | omega | exact ⟨by omega, by omega⟩ | omega) (by first | with_reducible assumption | omega | exact ⟨by omega, by omega⟩ | omega) (by first | with_reducible assumption | omega | exact ⟨by omega, by omega⟩ | omega) (by first | with_reducible assumption | omega | exact ⟨by omega, by omega⟩ | omega)) (cwV 3 hts (lw_V q2634 q2474 q2475 q49 q2476) rfl rfl rfl hd_X4_renew ⟨Nat.le_of_ble_eq_true rfl, Nat.le_of_ble_eq_true rfl⟩) (z_preV hK hS (zTw_le hTA hAn hS) hT.1 rfl rfl) rfl rfl hl.1 rfl (lv_room (Nat.le_of_ble_eq_true rfl)) dX4_versionAct_41 ⟨Nat.le_of_ble_eq_true rfl, Nat.le_of_ble_eq_true rfl⟩) hS (zTw_le hTA hAn hS) rfl rfl (fun H locs hT hS => ?_)
    exact z_iret hx hb hret rfl hlocks hS (by have hk0 : a1 = 7 := (by omega); subst hk0; rw [kL1, kH1, kE1] at hT; exact ⟨rfl, hT⟩) (Nat.le_of_ble_eq_true rfl) (Nat.le_of_ble_eq_true rfl) dX4_versionAct_44
  ·
    by_cases c_2 : a1 = 8
    · refine z_top (x := a1) (y := 8) c_2 ?_
      refine lv_tableIn (x := iI 8) (tgt := 45) hx hb dX4_versionAct_1 (by decide) (by decide) rfl (by decide) ?_
      refine lv_aload_n hx hb dX4_versionAct_45 rfl (lv_at hl 0 rfl) ?_
      refine lv_iload_n hx hb dX4_versionAct_46 rfl (lv_at hl 2 rfl) ?_
      refine lv_iload_n hx hb dX4_versionAct_47 rfl (lv_at hl 3 rfl) ?_
      refine lv_iload hx hb dX4_versionAct_48 (lv_at hl 4 rfl) ?_
      refine z_callm (v := .int (iI (kA (tC_cancel w a2 a3 a4) (tA_cancel w a2 a3 a4)))) (P := (fun H1 => zT G t (kW (tC_cancel w a2 a3 a4) w (tW_cancel w a2 a3 a4)) kp (kL 1 (tC_cancel w a2 a3 a4) ev lg 8 a2 a3 a4 0 0) (kH 1 (tC_cancel w a2 a3 a4) ev hr (tW_cancel w a2 a3 a4 0)) (kE 1 (tC_cancel w a2 a3 a4) ev) 1 (tC_cancel w a2 a3 a4) H1)) (vx_runV (As := [.int (iI a2), .int (iI a3), .int (iI a4)]) (rest := []) ⟨hx, hb, hml, hown, hts⟩ (tc_cancel l hT (a1 := a2) (a2 := a3) (a3 := a4) (by first | with_reducible assumption | omega | exact ⟨by omega, by omega⟩ | omega) (by first | with_reducible assumption | omega | exact ⟨by omega, by omega⟩ | omega) (by first | with_reducible assumption | omega | exact ⟨by omega, by omega⟩ | omega) (by first | with_reducible assumption | omega | exact ⟨by omega, by omega⟩ | omega) (by first | with_reducible assumption | omega | exact ⟨by omega, by omega⟩ | omega) (by first | with_reducible assumption | omega | exact ⟨by omega, by omega⟩ | omega)) (cwV 3 hts (lw_V q2635 q2478 q2479 q49 q2480) rfl rfl rfl hd_X4_cancel ⟨Nat.le_of_ble_eq_true rfl, Nat.le_of_ble_eq_true rfl⟩) (z_preV hK hS (zTw_le hTA hAn hS) hT.1 rfl rfl) rfl rfl hl.1 rfl (lv_room (Nat.le_of_ble_eq_true rfl)) dX4_versionAct_50 ⟨Nat.le_of_ble_eq_true rfl, Nat.le_of_ble_eq_true rfl⟩) hS (zTw_le hTA hAn hS) rfl rfl (fun H locs hT hS => ?_)
      exact z_iret hx hb hret rfl hlocks hS (by have hk0 : a1 = 8 := (by omega); subst hk0; rw [kL1, kH1, kE1] at hT; exact ⟨rfl, hT⟩) (Nat.le_of_ble_eq_true rfl) (Nat.le_of_ble_eq_true rfl) dX4_versionAct_53
    ·
      by_cases c_3 : a1 = 9
      · refine z_top (x := a1) (y := 9) c_3 ?_
        refine lv_tableIn (x := iI 9) (tgt := 54) hx hb dX4_versionAct_1 (by decide) (by decide) rfl (by decide) ?_
        refine lv_aload_n hx hb dX4_versionAct_54 rfl (lv_at hl 0 rfl) ?_
        refine lv_iload_n hx hb dX4_versionAct_55 rfl (lv_at hl 2 rfl) ?_
        refine lv_iload_n hx hb dX4_versionAct_56 rfl (lv_at hl 3 rfl) ?_
        refine lv_iload hx hb dX4_versionAct_57 (lv_at hl 4 rfl) ?_
        refine z_callm (v := .int (iI (kA (tC_promote w a2 a3 a4) (tA_promote w a2 a3 a4)))) (P := (fun H1 => zT G t (kW (tC_promote w a2 a3 a4) w (tW_promote w a2 a3 a4)) kp (kL 1 (tC_promote w a2 a3 a4) ev lg 9 a2 a3 a4 0 0) (kH 1 (tC_promote w a2 a3 a4) ev hr (tW_promote w a2 a3 a4 0)) (kE 1 (tC_promote w a2 a3 a4) ev) 1 (tC_promote w a2 a3 a4) H1)) (vx_runV (As := [.int (iI a2), .int (iI a3), .int (iI a4)]) (rest := []) ⟨hx, hb, hml, hown, hts⟩ (tc_promote l hT (a1 := a2) (a2 := a3) (a3 := a4) (by first | with_reducible assumption | omega | exact ⟨by omega, by omega⟩ | omega) (by first | with_reducible assumption | omega | exact ⟨by omega, by omega⟩ | omega) (by first | with_reducible assumption | omega | exact ⟨by omega, by omega⟩ | omega) (by first | with_reducible assumption | omega | exact ⟨by omega, by omega⟩ | omega) (by first | with_reducible assumption | omega | exact ⟨by omega, by omega⟩ | omega) (by first | with_reducible assumption | omega | exact ⟨by omega, by omega⟩ | omega)) (cwV 3 hts (lw_V q2636 q2482 q2483 q49 q2484) rfl rfl rfl hd_X4_promote ⟨Nat.le_of_ble_eq_true rfl, Nat.le_of_ble_eq_true rfl⟩) (z_preV hK hS (zTw_le hTA hAn hS) hT.1 rfl rfl) rfl rfl hl.1 rfl (lv_room (Nat.le_of_ble_eq_true rfl)) dX4_versionAct_59 ⟨Nat.le_of_ble_eq_true rfl, Nat.le_of_ble_eq_true rfl⟩) hS (zTw_le hTA hAn hS) rfl rfl (fun H locs hT hS => ?_)
        exact z_iret hx hb hret rfl hlocks hS (by have hk0 : a1 = 9 := (by omega); subst hk0; rw [kL1, kH1, kE1] at hT; exact ⟨rfl, hT⟩) (Nat.le_of_ble_eq_true rfl) (Nat.le_of_ble_eq_true rfl) dX4_versionAct_62
      ·
        by_cases c_4 : a1 = 10
        · refine z_top (x := a1) (y := 10) c_4 ?_
          refine lv_tableIn (x := iI 10) (tgt := 63) hx hb dX4_versionAct_1 (by decide) (by decide) rfl (by decide) ?_
          refine lv_aload_n hx hb dX4_versionAct_63 rfl (lv_at hl 0 rfl) ?_
          refine lv_iload_n hx hb dX4_versionAct_64 rfl (lv_at hl 2 rfl) ?_
          refine lv_iload_n hx hb dX4_versionAct_65 rfl (lv_at hl 3 rfl) ?_
          refine lv_iload hx hb dX4_versionAct_66 (lv_at hl 4 rfl) ?_
          refine z_callm (v := .int (iI (kA (tC_prune w a2 a3 a4) (tA_prune w a2 a3 a4)))) (P := (fun H1 => zT G t (kW (tC_prune w a2 a3 a4) w (tW_prune w a2 a3 a4)) kp (kL 1 (tC_prune w a2 a3 a4) ev lg 10 a2 a3 a4 0 0) (kH 1 (tC_prune w a2 a3 a4) ev hr (tW_prune w a2 a3 a4 0)) (kE 1 (tC_prune w a2 a3 a4) ev) 1 (tC_prune w a2 a3 a4) H1)) (vx_runV (As := [.int (iI a2), .int (iI a3), .int (iI a4)]) (rest := []) ⟨hx, hb, hml, hown, hts⟩ (tc_prune l hT (a1 := a2) (a2 := a3) (a3 := a4) (by first | with_reducible assumption | omega | exact ⟨by omega, by omega⟩ | omega) (by first | with_reducible assumption | omega | exact ⟨by omega, by omega⟩ | omega) (by first | with_reducible assumption | omega | exact ⟨by omega, by omega⟩ | omega) (by first | with_reducible assumption | omega | exact ⟨by omega, by omega⟩ | omega) (by first | with_reducible assumption | omega | exact ⟨by omega, by omega⟩ | omega) (by first | with_reducible assumption | omega | exact ⟨by omega, by omega⟩ | omega)) (cwV 3 hts (lw_V q2637 q2490 q2491 q49 q2492) rfl rfl rfl hd_X4_prune ⟨Nat.le_of_ble_eq_true rfl, Nat.le_of_ble_eq_true rfl⟩) (z_preV hK hS (zTw_le hTA hAn hS) hT.1 rfl rfl) rfl rfl hl.1 rfl (lv_room (Nat.le_of_ble_eq_true rfl)) dX4_versionAct_68 ⟨Nat.le_of_ble_eq_true rfl, Nat.le_of_ble_eq_true rfl⟩) hS (zTw_le hTA hAn hS) rfl rfl (fun H locs hT hS => ?_)
          exact z_iret hx hb hret rfl hlocks hS (by have hk0 : a1 = 10 := (by omega); subst hk0; rw [kL1, kH1, kE1] at hT; exact ⟨rfl, hT⟩) (Nat.le_of_ble_eq_true rfl) (Nat.le_of_ble_eq_true rfl) dX4_versionAct_71
        ·
          by_cases c_5 : a1 = 11
          · refine z_top (x := a1) (y := 11) c_5 ?_
            refine lv_tableIn (x := iI 11) (tgt := 72) hx hb dX4_versionAct_1 (by decide) (by decide) rfl (by decide) ?_
            refine lv_aload_n hx hb dX4_versionAct_72 rfl (lv_at hl 0 rfl) ?_
            refine lv_iload_n hx hb dX4_versionAct_73 rfl (lv_at hl 2 rfl) ?_
            refine lv_iload_n hx hb dX4_versionAct_74 rfl (lv_at hl 3 rfl) ?_
            refine z_callm (v := .int (iI (kA (tC_branchOff w a2 a3) (tA_branchOff w a2 a3)))) (P := (fun H1 => zT G t (kW (tC_branchOff w a2 a3) w (tW_branchOff w a2 a3)) kp (kL 1 (tC_branchOff w a2 a3) ev lg 11 a2 a3 0 0 0) (kH 1 (tC_branchOff w a2 a3) ev hr (tW_branchOff w a2 a3 0)) (kE 1 (tC_branchOff w a2 a3) ev) 1 (tC_branchOff w a2 a3) H1)) (vx_runV (As := [.int (iI a2), .int (iI a3)]) (rest := []) ⟨hx, hb, hml, hown, hts⟩ (tc_branchOff l hT (a1 := a2) (a2 := a3) (by first | with_reducible assumption | omega | exact ⟨by omega, by omega⟩ | omega) (by first | with_reducible assumption | omega | exact ⟨by omega, by omega⟩ | omega) (by first | with_reducible assumption | omega | exact ⟨by omega, by omega⟩ | omega) (by first | with_reducible assumption | omega | exact ⟨by omega, by omega⟩ | omega) (by first | with_reducible assumption | omega | exact ⟨by omega, by omega⟩ | omega)) (cwV 2 hts (lw_V q2638 q2498 q2499 q49 q2500) rfl rfl rfl hd_X4_branchOff ⟨Nat.le_of_ble_eq_true rfl, Nat.le_of_ble_eq_true rfl⟩) (z_preV hK hS (zTw_le hTA hAn hS) hT.1 rfl rfl) rfl rfl hl.1 rfl (lv_room (Nat.le_of_ble_eq_true rfl)) dX4_versionAct_75 ⟨Nat.le_of_ble_eq_true rfl, Nat.le_of_ble_eq_true rfl⟩) hS (zTw_le hTA hAn hS) rfl rfl (fun H locs hT hS => ?_)
            exact z_iret hx hb hret rfl hlocks hS (by have hk0 : a1 = 11 := (by omega); subst hk0; rw [kL1, kH1, kE1] at hT; exact ⟨rfl, hT⟩) (Nat.le_of_ble_eq_true rfl) (Nat.le_of_ble_eq_true rfl) dX4_versionAct_78
          ·
            refine lv_tableOut (x := iI a1) (tgt := 79) hx hb dX4_versionAct_1 (by rw [iI_toInt (by first | with_reducible assumption | omega | exact ⟨by omega, by omega⟩)]; omega) (by decide) ?_
            refine lv_aload_n hx hb dX4_versionAct_79 rfl (lv_at hl 0 rfl) ?_
            refine lv_iload_n hx hb dX4_versionAct_80 rfl (lv_at hl 2 rfl) ?_
            refine lv_iload_n hx hb dX4_versionAct_81 rfl (lv_at hl 3 rfl) ?_
            refine lv_iload hx hb dX4_versionAct_82 (lv_at hl 4 rfl) ?_
            refine z_callm (v := .int (iI (kA (tC_merge w a2 a3 a4) (tA_merge w a2 a3 a4)))) (P := (fun H1 => zT G t (kW (tC_merge w a2 a3 a4) w (tW_merge w a2 a3 a4)) kp (kL 1 (tC_merge w a2 a3 a4) ev lg 12 a2 a3 a4 0 0) (kH 1 (tC_merge w a2 a3 a4) ev hr (tW_merge w a2 a3 a4 0)) (kE 1 (tC_merge w a2 a3 a4) ev) 1 (tC_merge w a2 a3 a4) H1)) (vx_runV (As := [.int (iI a2), .int (iI a3), .int (iI a4)]) (rest := []) ⟨hx, hb, hml, hown, hts⟩ (tc_merge l hT (a1 := a2) (a2 := a3) (a3 := a4) (by first | with_reducible assumption | omega | exact ⟨by omega, by omega⟩ | omega) (by first | with_reducible assumption | omega | exact ⟨by omega, by omega⟩ | omega) (by first | with_reducible assumption | omega | exact ⟨by omega, by omega⟩ | omega) (by first | with_reducible assumption | omega | exact ⟨by omega, by omega⟩ | omega) (by first | with_reducible assumption | omega | exact ⟨by omega, by omega⟩ | omega) (by first | with_reducible assumption | omega | exact ⟨by omega, by omega⟩ | omega)) (cwV 3 hts (lw_V q2639 q2506 q2507 q49 q2508) rfl rfl rfl hd_X4_merge ⟨Nat.le_of_ble_eq_true rfl, Nat.le_of_ble_eq_true rfl⟩) (z_preV hK hS (zTw_le hTA hAn hS) hT.1 rfl rfl) rfl rfl hl.1 rfl (lv_room (Nat.le_of_ble_eq_true rfl)) dX4_versionAct_84 ⟨Nat.le_of_ble_eq_true rfl, Nat.le_of_ble_eq_true rfl⟩) hS (zTw_le hTA hAn hS) rfl rfl (fun H locs hT hS => ?_)
            exact z_iret hx hb hret rfl hlocks hS (by have hk0 : a1 = 12 := (by omega); subst hk0; rw [kL1, kH1, kE1] at hT; exact ⟨rfl, hT⟩) (Nat.le_of_ble_eq_true rfl) (Nat.le_of_ble_eq_true rfl) dX4_versionAct_87
theorem hn_X4_linkAct : yX4_linkAct.cls ≠ "java/lang/invoke/MethodHandle" ∧ yX4_linkAct.cls ≠ "java/lang/invoke/VarHandle" ∧ (parseMethodDescriptor yX4_linkAct.desc).map (fun d => d.parameters.length) = some 5 := by decide +kernel
theorem hd_X4_linkAct : yX4_linkAct.cls = "CheckoutDeskModel" ∧ yX4_linkAct.cls ≠ "java/lang/invoke/MethodHandle" ∧ yX4_linkAct.cls ≠ "java/lang/invoke/VarHandle" ∧ (parseMethodDescriptor yX4_linkAct.desc).map (fun d => d.parameters.length) = some 5 := ⟨rfl, hn_X4_linkAct⟩
abbrev rm_X4_linkAct : Room := { frames := 5, cells := 0, slots := 0, locals := 105 }
set_option maxHeartbeats 1000000 in
theorem tc_linkAct (l : Launch) {G : zG} {t : zTau} {w kp lg hr : Int → Int} {ev th : Int} {H0 : Heap} (hT : zT G t w kp lg hr ev 1 th H0) {a1 a2 a3 a4 a5 : Int} (ha1 : inR a1) (ha2 : inR a2) (ha3 : inR a3) (ha4 : inR a4) (ha5 : inR a5) (hk : 13 ≤ a1 ∧ a1 ≤ 15) {n_ : Int} (hI : tInv n_ w) (hn_ : n_ < 2000) : zM l yX4_linkAct (ws_ yX4_linkAct cX4_linkAct 6 (some .int)) rm_X4_linkAct G (zTw t H0) [.ref t.1, .int (iI a1), .int (iI a2), .int (iI a3), .int (iI a4), .int (iI a5)] H0 (fun r H1 => r = some (.int (iI (kA (gC w a1 a2 a3 a4 a5 0) (gA w a1 a2 a3 a4 a5 0)))) ∧ zT G t (kW (gC w a1 a2 a3 a4 a5 0) w (gW w a1 a2 a3 a4 a5 0)) kp lg hr ev 1 (gC w a1 a2 a3 a4 a5 0) H1) (fun _ => False) := by
  refine z_enter (by decide +kernel) (Nat.le_of_ble_eq_true rfl) ?_
  intro p e s m args below meth c ls hx hb hret hml hown hts hlocks htab hnm hK hH hl
  subst hH
  have hAn : ∀ q, s.heap.size ≤ q → zTw t s.heap q := fun _ h => Or.inr h
  have hTA : ∀ q, zTA t q → zTw t s.heap q := fun _ h => Or.inl h
  have hS : va_S (zTw t s.heap) s.heap s.heap [] := va_S.rf
  have hl : lv_has ls 6 [(0, .ref t.1), (1, .int (iI a1)), (2, .int (iI a2)), (3, .int (iI a3)), (4, .int (iI a4)), (5, .int (iI a5))] := hl
  have hrd := hT.2.2.2.2.2.2.2.2.2.2.2
  have hev := hT.2.2.2.2.2.2.2.2.2.2.1
  have hwR := hT.2.2.2.2.2.2.1
  have hev2 : (1 : Int) = 0 → ev < 2000 := fun q => absurd q (by decide)
  refine lv_iload_n hx hb dX4_linkAct_0 rfl (lv_at hl 1 rfl) ?_
  by_cases c_1 : a1 = 13
  · refine z_top (x := a1) (y := 13) c_1 ?_
    refine lv_lookup (x := iI 13) (tgt := 28) hx hb dX4_linkAct_1 (by decide) rfl (by decide) ?_
    refine lv_aload_n hx hb dX4_linkAct_28 rfl (lv_at hl 0 rfl) ?_
    refine lv_iload_n hx hb dX4_linkAct_29 rfl (lv_at hl 2 rfl) ?_
    refine lv_iload_n hx hb dX4_linkAct_30 rfl (lv_at hl 3 rfl) ?_
    refine lv_iload hx hb dX4_linkAct_31 (lv_at hl 4 rfl) ?_
    refine z_callm (v := .int (iI (kA (tC_linkVersion w a2 a3 a4) (tA_linkVersion w a2 a3 a4)))) (P := (fun H1 => zT G t (kW (tC_linkVersion w a2 a3 a4) w (tW_linkVersion w a2 a3 a4)) kp (kL 1 (tC_linkVersion w a2 a3 a4) ev lg 13 a2 a3 a4 0 0) (kH 1 (tC_linkVersion w a2 a3 a4) ev hr (tW_linkVersion w a2 a3 a4 0)) (kE 1 (tC_linkVersion w a2 a3 a4) ev) 1 (tC_linkVersion w a2 a3 a4) H1)) (vx_runV (As := [.int (iI a2), .int (iI a3), .int (iI a4)]) (rest := []) ⟨hx, hb, hml, hown, hts⟩ (tc_linkVersion l hT (a1 := a2) (a2 := a3) (a3 := a4) (by first | with_reducible assumption | omega | exact ⟨by omega, by omega⟩ | omega) (by first | with_reducible assumption | omega | exact ⟨by omega, by omega⟩ | omega) (by first | with_reducible assumption | omega | exact ⟨by omega, by omega⟩ | omega) (by first | with_reducible assumption | omega | exact ⟨by omega, by omega⟩ | omega) (by first | with_reducible assumption | omega | exact ⟨by omega, by omega⟩ | omega) (by first | with_reducible assumption | omega | exact ⟨by omega, by omega⟩ | omega)) (cwV 3 hts (lw_V q2644 q2510 q2511 q49 q2512) rfl rfl rfl hd_X4_linkVersion ⟨Nat.le_of_ble_eq_true rfl, Nat.le_of_ble_eq_true rfl⟩) (z_preV hK hS (zTw_le hTA hAn hS) hT.1 rfl rfl) rfl rfl hl.1 rfl (lv_room (Nat.le_of_ble_eq_true rfl)) dX4_linkAct_33 ⟨Nat.le_of_ble_eq_true rfl, Nat.le_of_ble_eq_true rfl⟩) hS (zTw_le hTA hAn hS) rfl rfl (fun H locs hT hS => ?_)
    exact z_iret hx hb hret rfl hlocks hS (by have hk0 : a1 = 13 := (by omega); subst hk0; rw [kL1, kH1, kE1] at hT; exact ⟨rfl, hT⟩) (Nat.le_of_ble_eq_true rfl) (Nat.le_of_ble_eq_true rfl) dX4_linkAct_36
  ·
    by_cases c_2 : a1 = 14
    · refine z_top (x := a1) (y := 14) c_2 ?_
      refine lv_lookup (x := iI 14) (tgt := 37) hx hb dX4_linkAct_1 (by decide) rfl (by decide) ?_
      refine lv_aload_n hx hb dX4_linkAct_37 rfl (lv_at hl 0 rfl) ?_
      refine lv_iload_n hx hb dX4_linkAct_38 rfl (lv_at hl 2 rfl) ?_
      refine lv_iload_n hx hb dX4_linkAct_39 rfl (lv_at hl 3 rfl) ?_
      refine lv_iload hx hb dX4_linkAct_40 (lv_at hl 4 rfl) ?_
      refine lv_iload hx hb dX4_linkAct_42 (lv_at hl 5 rfl) ?_
      refine z_callm (v := .int (iI (kA (tC_linkDocument w a2 a3 a4 a5) (tA_linkDocument w a2 a3 a4 a5)))) (P := (fun H1 => zT G t (kW (tC_linkDocument w a2 a3 a4 a5) w (tW_linkDocument w a2 a3 a4 a5)) kp (kL 1 (tC_linkDocument w a2 a3 a4 a5) ev lg 14 a2 a3 a4 a5 0) (kH 1 (tC_linkDocument w a2 a3 a4 a5) ev hr (tW_linkDocument w a2 a3 a4 a5 0)) (kE 1 (tC_linkDocument w a2 a3 a4 a5) ev) 1 (tC_linkDocument w a2 a3 a4 a5) H1)) (vx_runV (As := [.int (iI a2), .int (iI a3), .int (iI a4), .int (iI a5)]) (rest := []) ⟨hx, hb, hml, hown, hts⟩ (tc_linkDocument l hT (a1 := a2) (a2 := a3) (a3 := a4) (a4 := a5) (by first | with_reducible assumption | omega | exact ⟨by omega, by omega⟩ | omega) (by first | with_reducible assumption | omega | exact ⟨by omega, by omega⟩ | omega) (by first | with_reducible assumption | omega | exact ⟨by omega, by omega⟩ | omega) (by first | with_reducible assumption | omega | exact ⟨by omega, by omega⟩ | omega) (by first | with_reducible assumption | omega | exact ⟨by omega, by omega⟩ | omega) (by first | with_reducible assumption | omega | exact ⟨by omega, by omega⟩ | omega) (by first | with_reducible assumption | omega | exact ⟨by omega, by omega⟩ | omega)) (cwV 4 hts (lw_V q2645 q2522 q2523 q49 q2524) rfl rfl rfl hd_X4_linkDocument ⟨Nat.le_of_ble_eq_true rfl, Nat.le_of_ble_eq_true rfl⟩) (z_preV hK hS (zTw_le hTA hAn hS) hT.1 rfl rfl) rfl rfl hl.1 rfl (lv_room (Nat.le_of_ble_eq_true rfl)) dX4_linkAct_44 ⟨Nat.le_of_ble_eq_true rfl, Nat.le_of_ble_eq_true rfl⟩) hS (zTw_le hTA hAn hS) rfl rfl (fun H locs hT hS => ?_)
      exact z_iret hx hb hret rfl hlocks hS (by have hk0 : a1 = 14 := (by omega); subst hk0; rw [kL1, kH1, kE1] at hT; exact ⟨rfl, hT⟩) (Nat.le_of_ble_eq_true rfl) (Nat.le_of_ble_eq_true rfl) dX4_linkAct_47
    ·
      refine lv_lookup (x := iI a1) (off := 47) (tgt := 48) hx hb dX4_linkAct_1 (by decide) (by rw [iI_toInt (by first | with_reducible assumption | omega | exact ⟨by omega, by omega⟩)]; exact z_osw (by omega) (by omega)) (by decide) ?_
      refine lv_aload_n hx hb dX4_linkAct_48 rfl (lv_at hl 0 rfl) ?_
      refine lv_iload_n hx hb dX4_linkAct_49 rfl (lv_at hl 2 rfl) ?_
      refine lv_iload_n hx hb dX4_linkAct_50 rfl (lv_at hl 3 rfl) ?_
      refine z_callm (v := .int (iI (kA (tC_unlink w a2 a3) (tA_unlink w a2 a3)))) (P := (fun H1 => zT G t (kW (tC_unlink w a2 a3) w (tW_unlink w a2 a3)) kp (kL 1 (tC_unlink w a2 a3) ev lg 15 a2 a3 0 0 0) (kH 1 (tC_unlink w a2 a3) ev hr (tW_unlink w a2 a3 0)) (kE 1 (tC_unlink w a2 a3) ev) 1 (tC_unlink w a2 a3) H1)) (vx_runV (As := [.int (iI a2), .int (iI a3)]) (rest := []) ⟨hx, hb, hml, hown, hts⟩ (tc_unlink l hT (a1 := a2) (a2 := a3) (by first | with_reducible assumption | omega | exact ⟨by omega, by omega⟩ | omega) (by first | with_reducible assumption | omega | exact ⟨by omega, by omega⟩ | omega) (by first | with_reducible assumption | omega | exact ⟨by omega, by omega⟩ | omega) (by first | with_reducible assumption | omega | exact ⟨by omega, by omega⟩ | omega) (by first | with_reducible assumption | omega | exact ⟨by omega, by omega⟩ | omega)) (cwV 2 hts (lw_V q2646 q2526 q2527 q49 q2528) rfl rfl rfl hd_X4_unlink ⟨Nat.le_of_ble_eq_true rfl, Nat.le_of_ble_eq_true rfl⟩) (z_preV hK hS (zTw_le hTA hAn hS) hT.1 rfl rfl) rfl rfl hl.1 rfl (lv_room (Nat.le_of_ble_eq_true rfl)) dX4_linkAct_51 ⟨Nat.le_of_ble_eq_true rfl, Nat.le_of_ble_eq_true rfl⟩) hS (zTw_le hTA hAn hS) rfl rfl (fun H locs hT hS => ?_)
      exact z_iret hx hb hret rfl hlocks hS (by have hk0 : a1 = 15 := (by omega); subst hk0; rw [kL1, kH1, kE1] at hT; exact ⟨rfl, hT⟩) (Nat.le_of_ble_eq_true rfl) (Nat.le_of_ble_eq_true rfl) dX4_linkAct_54
theorem gX_doc {w : Int → Int} {k a b c d e : Int} (h : 0 ≤ k ∧ k ≤ 15) (h7 : k < 7) (h5 : k ≠ 5) : gC w k a b c d e = gC w k a b c d 0 ∧ gW w k a b c d e = gW w k a b c d 0 ∧ gA w k a b c d e = gA w k a b c d 0 := by
  rcases (show k = 0 ∨ k = 1 ∨ k = 2 ∨ k = 3 ∨ k = 4 ∨ k = 6 by omega) with rfl | rfl | rfl | rfl | rfl | rfl <;> exact ⟨rfl, rfl, rfl⟩
theorem gX_ver {w : Int → Int} {k a b c d e : Int} (h7 : ¬ k < 7) (h13 : k < 13) : gC w k a b c d e = gC w k a b c 0 0 ∧ gW w k a b c d e = gW w k a b c 0 0 ∧ gA w k a b c d e = gA w k a b c 0 0 := by
  rcases (show k = 7 ∨ k = 8 ∨ k = 9 ∨ k = 10 ∨ k = 11 ∨ k = 12 by omega) with rfl | rfl | rfl | rfl | rfl | rfl <;> exact ⟨rfl, rfl, rfl⟩
theorem gX_lnk {w : Int → Int} {k a b c d e : Int} (h : 0 ≤ k ∧ k ≤ 15) (h13 : ¬ k < 13) : gC w k a b c d e = gC w k a b c d 0 ∧ gW w k a b c d e = gW w k a b c d 0 ∧ gA w k a b c d e = gA w k a b c d 0 := by
  rcases (show k = 13 ∨ k = 14 ∨ k = 15 by omega) with rfl | rfl | rfl <;> exact ⟨rfl, rfl, rfl⟩
theorem hn_X4_act : yX4_act.cls ≠ "java/lang/invoke/MethodHandle" ∧ yX4_act.cls ≠ "java/lang/invoke/VarHandle" ∧ (parseMethodDescriptor yX4_act.desc).map (fun d => d.parameters.length) = some 1 := by decide +kernel
theorem hd_X4_act : yX4_act.cls = "CheckoutDeskModel" ∧ yX4_act.cls ≠ "java/lang/invoke/MethodHandle" ∧ yX4_act.cls ≠ "java/lang/invoke/VarHandle" ∧ (parseMethodDescriptor yX4_act.desc).map (fun d => d.parameters.length) = some 1 := ⟨rfl, hn_X4_act⟩
abbrev rm_X4_act : Room := { frames := 7, cells := 0, slots := 0, locals := 159 }
set_option maxHeartbeats 1000000 in
theorem tc_act (l : Launch) {G : zG} {t : zTau} {w kp lg hr : Int → Int} {ev th : Int} {H0 : Heap} (hT : zT G t w kp lg hr ev 1 th H0) {a1 : Int} (ha1 : 0 ≤ a1 ∧ a1 ≤ 11994) (hk : 0 ≤ lg a1 ∧ lg a1 ≤ 15) {n_ : Int} (hI : tInv n_ w) (hn_ : n_ < 2000) : zM l yX4_act (ws_ yX4_act cX4_act 3 (some .int)) rm_X4_act G (zTw t H0) [.ref t.1, .int (iI a1)] H0 (fun r H1 => r = some (.int (iI (kA (gC w (lg a1) (lg (a1 + 1)) (lg (a1 + 2)) (lg (a1 + 3)) (lg (a1 + 4)) (lg (a1 + 5))) (gA w (lg a1) (lg (a1 + 1)) (lg (a1 + 2)) (lg (a1 + 3)) (lg (a1 + 4)) (lg (a1 + 5)))))) ∧ zT G t (kW (gC w (lg a1) (lg (a1 + 1)) (lg (a1 + 2)) (lg (a1 + 3)) (lg (a1 + 4)) (lg (a1 + 5))) w (gW w (lg a1) (lg (a1 + 1)) (lg (a1 + 2)) (lg (a1 + 3)) (lg (a1 + 4)) (lg (a1 + 5)))) kp lg hr ev 1 (gC w (lg a1) (lg (a1 + 1)) (lg (a1 + 2)) (lg (a1 + 3)) (lg (a1 + 4)) (lg (a1 + 5))) H1) (fun _ => False) := by
  refine z_enter (by decide +kernel) (Nat.le_of_ble_eq_true rfl) ?_
  intro p e s m args below meth c ls hx hb hret hml hown hts hlocks htab hnm hK hH hl
  subst hH
  have hAn : ∀ q, s.heap.size ≤ q → zTw t s.heap q := fun _ h => Or.inr h
  have hTA : ∀ q, zTA t q → zTw t s.heap q := fun _ h => Or.inl h
  have hS : va_S (zTw t s.heap) s.heap s.heap [] := va_S.rf
  have hl : lv_has ls 3 [(0, .ref t.1), (1, .int (iI a1))] := hl
  have hrd := hT.2.2.2.2.2.2.2.2.2.2.2
  have hev := hT.2.2.2.2.2.2.2.2.2.2.1
  have hwR := hT.2.2.2.2.2.2.1
  have hev2 : (1 : Int) = 0 → ev < 2000 := fun q => absurd q (by decide)
  refine lv_aload_n hx hb dX4_act_0 rfl (lv_at hl 0 rfl) ?_
  refine z_get (k := 2) hx hb hts in_X4 hown hK hT.1 rfl (by decide) q2333 rfl (v := .ref t.2.2.2.1) rfl dX4_act_1 ?_
  refine lv_iload_n hx hb dX4_act_4 rfl (lv_at hl 1 rfl) ?_
  refine z_ildZ (i := a1) (f := lg) hx hb hK hT.2.2.2.1 ⟨by omega, by omega⟩ (by decide) dX4_act_5 ?_
  have r_1 : inR (lg a1) := hT.2.2.2.2.2.2.2.2.1 a1
  refine lv_istore_n (lv' := [(2, .int (iI (lg a1))), (0, .ref t.1), (1, .int (iI a1))]) hx hb dX4_act_6 rfl hl (by decide) rfl (fun ls hl => ?_)
  refine lv_iload_n hx hb dX4_act_7 rfl (lv_at hl 0 rfl) ?_
  refine lv_iconst (v := iI 5) hx hb dX4_act_8 rfl ?_
  refine z_icmp_ne (x := lg a1) (y := 5) (tgt := 57) hx hb (by first | with_reducible assumption | omega | exact ⟨by omega, by omega⟩) (by decide) dX4_act_9 (by decide) (fun c_2 => ?_) (fun c_2 => ?_)
  · refine lv_iload_n hx hb dX4_act_57 rfl (lv_at hl 0 rfl) ?_
    refine lv_bipush (v := iI 7) hx hb dX4_act_58 (by decide) ?_
    refine z_icmp_ge (x := lg a1) (y := 7) (tgt := 101) hx hb (by first | with_reducible assumption | omega | exact ⟨by omega, by omega⟩) (by decide) dX4_act_60 (by decide) (fun c_3 => ?_) (fun c_3 => ?_)
    · refine lv_iload_n hx hb dX4_act_101 rfl (lv_at hl 0 rfl) ?_
      refine lv_bipush (v := iI 13) hx hb dX4_act_102 (by decide) ?_
      refine z_icmp_ge (x := lg a1) (y := 13) (tgt := 139) hx hb (by first | with_reducible assumption | omega | exact ⟨by omega, by omega⟩) (by decide) dX4_act_104 (by decide) (fun c_4 => ?_) (fun c_4 => ?_)
      · refine lv_aload_n hx hb dX4_act_139 rfl (lv_at hl 1 rfl) ?_
        refine lv_iload_n hx hb dX4_act_140 rfl (lv_at hl 0 rfl) ?_
        refine lv_aload_n hx hb dX4_act_141 rfl (lv_at hl 1 rfl) ?_
        refine z_get (k := 2) hx hb hts in_X4 hown hK hT.1 rfl (by decide) q2333 rfl (v := .ref t.2.2.2.1) rfl dX4_act_142 ?_
        refine lv_iload_n hx hb dX4_act_145 rfl (lv_at hl 2 rfl) ?_
        refine lv_iconst (v := iI 1) hx hb dX4_act_146 rfl ?_
        refine z_iadd (x := a1) (y := 1) hx hb dX4_act_147 ?_
        refine z_ildZ (i := a1 + 1) (f := lg) hx hb hK hT.2.2.2.1 ⟨by omega, by omega⟩ (by decide) dX4_act_148 ?_
        have r_5 : inR (lg (a1 + 1)) := hT.2.2.2.2.2.2.2.2.1 (a1 + 1)
        refine lv_aload_n hx hb dX4_act_149 rfl (lv_at hl 1 rfl) ?_
        refine z_get (k := 2) hx hb hts in_X4 hown hK hT.1 rfl (by decide) q2333 rfl (v := .ref t.2.2.2.1) rfl dX4_act_150 ?_
        refine lv_iload_n hx hb dX4_act_153 rfl (lv_at hl 2 rfl) ?_
        refine lv_iconst (v := iI 2) hx hb dX4_act_154 rfl ?_
        refine z_iadd (x := a1) (y := 2) hx hb dX4_act_155 ?_
        refine z_ildZ (i := a1 + 2) (f := lg) hx hb hK hT.2.2.2.1 ⟨by omega, by omega⟩ (by decide) dX4_act_156 ?_
        have r_6 : inR (lg (a1 + 2)) := hT.2.2.2.2.2.2.2.2.1 (a1 + 2)
        refine lv_aload_n hx hb dX4_act_157 rfl (lv_at hl 1 rfl) ?_
        refine z_get (k := 2) hx hb hts in_X4 hown hK hT.1 rfl (by decide) q2333 rfl (v := .ref t.2.2.2.1) rfl dX4_act_158 ?_
        refine lv_iload_n hx hb dX4_act_161 rfl (lv_at hl 2 rfl) ?_
        refine lv_iconst (v := iI 3) hx hb dX4_act_162 rfl ?_
        refine z_iadd (x := a1) (y := 3) hx hb dX4_act_163 ?_
        refine z_ildZ (i := a1 + 3) (f := lg) hx hb hK hT.2.2.2.1 ⟨by omega, by omega⟩ (by decide) dX4_act_164 ?_
        have r_7 : inR (lg (a1 + 3)) := hT.2.2.2.2.2.2.2.2.1 (a1 + 3)
        refine lv_aload_n hx hb dX4_act_165 rfl (lv_at hl 1 rfl) ?_
        refine z_get (k := 2) hx hb hts in_X4 hown hK hT.1 rfl (by decide) q2333 rfl (v := .ref t.2.2.2.1) rfl dX4_act_166 ?_
        refine lv_iload_n hx hb dX4_act_169 rfl (lv_at hl 2 rfl) ?_
        refine lv_iconst (v := iI 4) hx hb dX4_act_170 rfl ?_
        refine z_iadd (x := a1) (y := 4) hx hb dX4_act_171 ?_
        refine z_ildZ (i := a1 + 4) (f := lg) hx hb hK hT.2.2.2.1 ⟨by omega, by omega⟩ (by decide) dX4_act_172 ?_
        have r_8 : inR (lg (a1 + 4)) := hT.2.2.2.2.2.2.2.2.1 (a1 + 4)
        refine z_callm (v := .int (iI (kA (gC w (lg a1) (lg (a1 + 1)) (lg (a1 + 2)) (lg (a1 + 3)) (lg (a1 + 4)) 0) (gA w (lg a1) (lg (a1 + 1)) (lg (a1 + 2)) (lg (a1 + 3)) (lg (a1 + 4)) 0)))) (P := (fun H1 => zT G t (kW (gC w (lg a1) (lg (a1 + 1)) (lg (a1 + 2)) (lg (a1 + 3)) (lg (a1 + 4)) 0) w (gW w (lg a1) (lg (a1 + 1)) (lg (a1 + 2)) (lg (a1 + 3)) (lg (a1 + 4)) 0)) kp lg hr ev 1 (gC w (lg a1) (lg (a1 + 1)) (lg (a1 + 2)) (lg (a1 + 3)) (lg (a1 + 4)) 0) H1)) (vx_runV (As := [.int (iI (lg a1)), .int (iI (lg (a1 + 1))), .int (iI (lg (a1 + 2))), .int (iI (lg (a1 + 3))), .int (iI (lg (a1 + 4)))]) (rest := []) ⟨hx, hb, hml, hown, hts⟩ (tc_linkAct l hT (a1 := lg a1) (a2 := lg (a1 + 1)) (a3 := lg (a1 + 2)) (a4 := lg (a1 + 3)) (a5 := lg (a1 + 4)) (by first | with_reducible assumption | omega | exact ⟨by omega, by omega⟩ | omega) (by first | with_reducible assumption | omega | exact ⟨by omega, by omega⟩ | omega) (by first | with_reducible assumption | omega | exact ⟨by omega, by omega⟩ | omega) (by first | with_reducible assumption | omega | exact ⟨by omega, by omega⟩ | omega) (by first | with_reducible assumption | omega | exact ⟨by omega, by omega⟩ | omega) (by first | with_reducible assumption | omega | exact ⟨by omega, by omega⟩ | omega) (by first | with_reducible assumption | omega | exact ⟨by omega, by omega⟩ | omega) (by first | with_reducible assumption | omega | exact ⟨by omega, by omega⟩ | omega)) (cwV 5 hts (lw_V q2640 q2642 qs39 q49 q2643) rfl rfl rfl hd_X4_linkAct ⟨Nat.le_of_ble_eq_true rfl, Nat.le_of_ble_eq_true rfl⟩) (z_preV hK hS (zTw_le hTA hAn hS) hT.1 rfl rfl) rfl rfl hl.1 rfl (lv_room (Nat.le_of_ble_eq_true rfl)) dX4_act_173 ⟨Nat.le_of_ble_eq_true rfl, Nat.le_of_ble_eq_true rfl⟩) hS (zTw_le hTA hAn hS) rfl rfl (fun H locs hT hS => ?_)
        exact z_iret hx hb hret rfl hlocks hS (by obtain ⟨e1, e2, e3⟩ := gX_lnk (w := w) (a := lg (a1 + 1)) (b := lg (a1 + 2)) (c := lg (a1 + 3)) (d := lg (a1 + 4)) (e := lg (a1 + 5)) hk c_4; rw [e1, e2, e3]; exact ⟨rfl, hT⟩) (Nat.le_of_ble_eq_true rfl) (Nat.le_of_ble_eq_true rfl) dX4_act_176
      · refine lv_aload_n hx hb dX4_act_107 rfl (lv_at hl 1 rfl) ?_
        refine lv_iload_n hx hb dX4_act_108 rfl (lv_at hl 0 rfl) ?_
        refine lv_aload_n hx hb dX4_act_109 rfl (lv_at hl 1 rfl) ?_
        refine z_get (k := 2) hx hb hts in_X4 hown hK hT.1 rfl (by decide) q2333 rfl (v := .ref t.2.2.2.1) rfl dX4_act_110 ?_
        refine lv_iload_n hx hb dX4_act_113 rfl (lv_at hl 2 rfl) ?_
        refine lv_iconst (v := iI 1) hx hb dX4_act_114 rfl ?_
        refine z_iadd (x := a1) (y := 1) hx hb dX4_act_115 ?_
        refine z_ildZ (i := a1 + 1) (f := lg) hx hb hK hT.2.2.2.1 ⟨by omega, by omega⟩ (by decide) dX4_act_116 ?_
        have r_9 : inR (lg (a1 + 1)) := hT.2.2.2.2.2.2.2.2.1 (a1 + 1)
        refine lv_aload_n hx hb dX4_act_117 rfl (lv_at hl 1 rfl) ?_
        refine z_get (k := 2) hx hb hts in_X4 hown hK hT.1 rfl (by decide) q2333 rfl (v := .ref t.2.2.2.1) rfl dX4_act_118 ?_
        refine lv_iload_n hx hb dX4_act_121 rfl (lv_at hl 2 rfl) ?_
        refine lv_iconst (v := iI 2) hx hb dX4_act_122 rfl ?_
        refine z_iadd (x := a1) (y := 2) hx hb dX4_act_123 ?_
        refine z_ildZ (i := a1 + 2) (f := lg) hx hb hK hT.2.2.2.1 ⟨by omega, by omega⟩ (by decide) dX4_act_124 ?_
        have r_10 : inR (lg (a1 + 2)) := hT.2.2.2.2.2.2.2.2.1 (a1 + 2)
        refine lv_aload_n hx hb dX4_act_125 rfl (lv_at hl 1 rfl) ?_
        refine z_get (k := 2) hx hb hts in_X4 hown hK hT.1 rfl (by decide) q2333 rfl (v := .ref t.2.2.2.1) rfl dX4_act_126 ?_
        refine lv_iload_n hx hb dX4_act_129 rfl (lv_at hl 2 rfl) ?_
        refine lv_iconst (v := iI 3) hx hb dX4_act_130 rfl ?_
        refine z_iadd (x := a1) (y := 3) hx hb dX4_act_131 ?_
        refine z_ildZ (i := a1 + 3) (f := lg) hx hb hK hT.2.2.2.1 ⟨by omega, by omega⟩ (by decide) dX4_act_132 ?_
        have r_11 : inR (lg (a1 + 3)) := hT.2.2.2.2.2.2.2.2.1 (a1 + 3)
        refine z_callm (v := .int (iI (kA (gC w (lg a1) (lg (a1 + 1)) (lg (a1 + 2)) (lg (a1 + 3)) 0 0) (gA w (lg a1) (lg (a1 + 1)) (lg (a1 + 2)) (lg (a1 + 3)) 0 0)))) (P := (fun H1 => zT G t (kW (gC w (lg a1) (lg (a1 + 1)) (lg (a1 + 2)) (lg (a1 + 3)) 0 0) w (gW w (lg a1) (lg (a1 + 1)) (lg (a1 + 2)) (lg (a1 + 3)) 0 0)) kp lg hr ev 1 (gC w (lg a1) (lg (a1 + 1)) (lg (a1 + 2)) (lg (a1 + 3)) 0 0) H1)) (vx_runV (As := [.int (iI (lg a1)), .int (iI (lg (a1 + 1))), .int (iI (lg (a1 + 2))), .int (iI (lg (a1 + 3)))]) (rest := []) ⟨hx, hb, hml, hown, hts⟩ (tc_versionAct l hT (a1 := lg a1) (a2 := lg (a1 + 1)) (a3 := lg (a1 + 2)) (a4 := lg (a1 + 3)) (by first | with_reducible assumption | omega | exact ⟨by omega, by omega⟩ | omega) (by first | with_reducible assumption | omega | exact ⟨by omega, by omega⟩ | omega) (by first | with_reducible assumption | omega | exact ⟨by omega, by omega⟩ | omega) (by first | with_reducible assumption | omega | exact ⟨by omega, by omega⟩ | omega) (by first | with_reducible assumption | omega | exact ⟨by omega, by omega⟩ | omega) (by first | with_reducible assumption | omega | exact ⟨by omega, by omega⟩ | omega) (by first | with_reducible assumption | omega | exact ⟨by omega, by omega⟩ | omega)) (cwV 4 hts (lw_V q2630 q2632 qs38 q49 q2633) rfl rfl rfl hd_X4_versionAct ⟨Nat.le_of_ble_eq_true rfl, Nat.le_of_ble_eq_true rfl⟩) (z_preV hK hS (zTw_le hTA hAn hS) hT.1 rfl rfl) rfl rfl hl.1 rfl (lv_room (Nat.le_of_ble_eq_true rfl)) dX4_act_133 ⟨Nat.le_of_ble_eq_true rfl, Nat.le_of_ble_eq_true rfl⟩) hS (zTw_le hTA hAn hS) rfl rfl (fun H locs hT hS => ?_)
        refine lv_goto (tgt := 176) hx hb dX4_act_136 (by decide) ?_
        exact z_iret hx hb hret rfl hlocks hS (by obtain ⟨e1, e2, e3⟩ := gX_ver (w := w) (a := lg (a1 + 1)) (b := lg (a1 + 2)) (c := lg (a1 + 3)) (d := lg (a1 + 4)) (e := lg (a1 + 5)) c_3 c_4; rw [e1, e2, e3]; exact ⟨rfl, hT⟩) (Nat.le_of_ble_eq_true rfl) (Nat.le_of_ble_eq_true rfl) dX4_act_176
    · refine lv_aload_n hx hb dX4_act_63 rfl (lv_at hl 1 rfl) ?_
      refine lv_iload_n hx hb dX4_act_64 rfl (lv_at hl 0 rfl) ?_
      refine lv_aload_n hx hb dX4_act_65 rfl (lv_at hl 1 rfl) ?_
      refine z_get (k := 2) hx hb hts in_X4 hown hK hT.1 rfl (by decide) q2333 rfl (v := .ref t.2.2.2.1) rfl dX4_act_66 ?_
      refine lv_iload_n hx hb dX4_act_69 rfl (lv_at hl 2 rfl) ?_
      refine lv_iconst (v := iI 1) hx hb dX4_act_70 rfl ?_
      refine z_iadd (x := a1) (y := 1) hx hb dX4_act_71 ?_
      refine z_ildZ (i := a1 + 1) (f := lg) hx hb hK hT.2.2.2.1 ⟨by omega, by omega⟩ (by decide) dX4_act_72 ?_
      have r_12 : inR (lg (a1 + 1)) := hT.2.2.2.2.2.2.2.2.1 (a1 + 1)
      refine lv_aload_n hx hb dX4_act_73 rfl (lv_at hl 1 rfl) ?_
      refine z_get (k := 2) hx hb hts in_X4 hown hK hT.1 rfl (by decide) q2333 rfl (v := .ref t.2.2.2.1) rfl dX4_act_74 ?_
      refine lv_iload_n hx hb dX4_act_77 rfl (lv_at hl 2 rfl) ?_
      refine lv_iconst (v := iI 2) hx hb dX4_act_78 rfl ?_
      refine z_iadd (x := a1) (y := 2) hx hb dX4_act_79 ?_
      refine z_ildZ (i := a1 + 2) (f := lg) hx hb hK hT.2.2.2.1 ⟨by omega, by omega⟩ (by decide) dX4_act_80 ?_
      have r_13 : inR (lg (a1 + 2)) := hT.2.2.2.2.2.2.2.2.1 (a1 + 2)
      refine lv_aload_n hx hb dX4_act_81 rfl (lv_at hl 1 rfl) ?_
      refine z_get (k := 2) hx hb hts in_X4 hown hK hT.1 rfl (by decide) q2333 rfl (v := .ref t.2.2.2.1) rfl dX4_act_82 ?_
      refine lv_iload_n hx hb dX4_act_85 rfl (lv_at hl 2 rfl) ?_
      refine lv_iconst (v := iI 3) hx hb dX4_act_86 rfl ?_
      refine z_iadd (x := a1) (y := 3) hx hb dX4_act_87 ?_
      refine z_ildZ (i := a1 + 3) (f := lg) hx hb hK hT.2.2.2.1 ⟨by omega, by omega⟩ (by decide) dX4_act_88 ?_
      have r_14 : inR (lg (a1 + 3)) := hT.2.2.2.2.2.2.2.2.1 (a1 + 3)
      refine lv_aload_n hx hb dX4_act_89 rfl (lv_at hl 1 rfl) ?_
      refine z_get (k := 2) hx hb hts in_X4 hown hK hT.1 rfl (by decide) q2333 rfl (v := .ref t.2.2.2.1) rfl dX4_act_90 ?_
      refine lv_iload_n hx hb dX4_act_93 rfl (lv_at hl 2 rfl) ?_
      refine lv_iconst (v := iI 4) hx hb dX4_act_94 rfl ?_
      refine z_iadd (x := a1) (y := 4) hx hb dX4_act_95 ?_
      refine z_ildZ (i := a1 + 4) (f := lg) hx hb hK hT.2.2.2.1 ⟨by omega, by omega⟩ (by decide) dX4_act_96 ?_
      have r_15 : inR (lg (a1 + 4)) := hT.2.2.2.2.2.2.2.2.1 (a1 + 4)
      refine z_callm (v := .int (iI (kA (gC w (lg a1) (lg (a1 + 1)) (lg (a1 + 2)) (lg (a1 + 3)) (lg (a1 + 4)) 0) (gA w (lg a1) (lg (a1 + 1)) (lg (a1 + 2)) (lg (a1 + 3)) (lg (a1 + 4)) 0)))) (P := (fun H1 => zT G t (kW (gC w (lg a1) (lg (a1 + 1)) (lg (a1 + 2)) (lg (a1 + 3)) (lg (a1 + 4)) 0) w (gW w (lg a1) (lg (a1 + 1)) (lg (a1 + 2)) (lg (a1 + 3)) (lg (a1 + 4)) 0)) kp lg hr ev 1 (gC w (lg a1) (lg (a1 + 1)) (lg (a1 + 2)) (lg (a1 + 3)) (lg (a1 + 4)) 0) H1)) (vx_runV (As := [.int (iI (lg a1)), .int (iI (lg (a1 + 1))), .int (iI (lg (a1 + 2))), .int (iI (lg (a1 + 3))), .int (iI (lg (a1 + 4)))]) (rest := []) ⟨hx, hb, hml, hown, hts⟩ (tc_documentAct l hT (a1 := lg a1) (a2 := lg (a1 + 1)) (a3 := lg (a1 + 2)) (a4 := lg (a1 + 3)) (a5 := lg (a1 + 4)) (by first | with_reducible assumption | omega | exact ⟨by omega, by omega⟩ | omega) (by first | with_reducible assumption | omega | exact ⟨by omega, by omega⟩ | omega) (by first | with_reducible assumption | omega | exact ⟨by omega, by omega⟩ | omega) (by first | with_reducible assumption | omega | exact ⟨by omega, by omega⟩ | omega) (by first | with_reducible assumption | omega | exact ⟨by omega, by omega⟩ | omega) (by first | with_reducible assumption | omega | exact ⟨by omega, by omega⟩ | omega) (by first | with_reducible assumption | omega | exact ⟨by omega, by omega⟩ | omega) (by first | with_reducible assumption | omega | exact ⟨by omega, by omega⟩ | omega)) (cwV 5 hts (lw_V q2620 q2622 qs37 q49 q2623) rfl rfl rfl hd_X4_documentAct ⟨Nat.le_of_ble_eq_true rfl, Nat.le_of_ble_eq_true rfl⟩) (z_preV hK hS (zTw_le hTA hAn hS) hT.1 rfl rfl) rfl rfl hl.1 rfl (lv_room (Nat.le_of_ble_eq_true rfl)) dX4_act_97 ⟨Nat.le_of_ble_eq_true rfl, Nat.le_of_ble_eq_true rfl⟩) hS (zTw_le hTA hAn hS) rfl rfl (fun H locs hT hS => ?_)
      exact z_iret hx hb hret rfl hlocks hS (by obtain ⟨e1, e2, e3⟩ := gX_doc (w := w) (a := lg (a1 + 1)) (b := lg (a1 + 2)) (c := lg (a1 + 3)) (d := lg (a1 + 4)) (e := lg (a1 + 5)) hk c_3 c_2; rw [e1, e2, e3]; exact ⟨rfl, hT⟩) (Nat.le_of_ble_eq_true rfl) (Nat.le_of_ble_eq_true rfl) dX4_act_100
  · refine lv_aload_n hx hb dX4_act_12 rfl (lv_at hl 1 rfl) ?_
    refine lv_aload_n hx hb dX4_act_13 rfl (lv_at hl 1 rfl) ?_
    refine z_get (k := 2) hx hb hts in_X4 hown hK hT.1 rfl (by decide) q2333 rfl (v := .ref t.2.2.2.1) rfl dX4_act_14 ?_
    refine lv_iload_n hx hb dX4_act_17 rfl (lv_at hl 2 rfl) ?_
    refine lv_iconst (v := iI 1) hx hb dX4_act_18 rfl ?_
    refine z_iadd (x := a1) (y := 1) hx hb dX4_act_19 ?_
    refine z_ildZ (i := a1 + 1) (f := lg) hx hb hK hT.2.2.2.1 ⟨by omega, by omega⟩ (by decide) dX4_act_20 ?_
    have r_16 : inR (lg (a1 + 1)) := hT.2.2.2.2.2.2.2.2.1 (a1 + 1)
    refine lv_aload_n hx hb dX4_act_21 rfl (lv_at hl 1 rfl) ?_
    refine z_get (k := 2) hx hb hts in_X4 hown hK hT.1 rfl (by decide) q2333 rfl (v := .ref t.2.2.2.1) rfl dX4_act_22 ?_
    refine lv_iload_n hx hb dX4_act_25 rfl (lv_at hl 2 rfl) ?_
    refine lv_iconst (v := iI 2) hx hb dX4_act_26 rfl ?_
    refine z_iadd (x := a1) (y := 2) hx hb dX4_act_27 ?_
    refine z_ildZ (i := a1 + 2) (f := lg) hx hb hK hT.2.2.2.1 ⟨by omega, by omega⟩ (by decide) dX4_act_28 ?_
    have r_17 : inR (lg (a1 + 2)) := hT.2.2.2.2.2.2.2.2.1 (a1 + 2)
    refine lv_aload_n hx hb dX4_act_29 rfl (lv_at hl 1 rfl) ?_
    refine z_get (k := 2) hx hb hts in_X4 hown hK hT.1 rfl (by decide) q2333 rfl (v := .ref t.2.2.2.1) rfl dX4_act_30 ?_
    refine lv_iload_n hx hb dX4_act_33 rfl (lv_at hl 2 rfl) ?_
    refine lv_iconst (v := iI 3) hx hb dX4_act_34 rfl ?_
    refine z_iadd (x := a1) (y := 3) hx hb dX4_act_35 ?_
    refine z_ildZ (i := a1 + 3) (f := lg) hx hb hK hT.2.2.2.1 ⟨by omega, by omega⟩ (by decide) dX4_act_36 ?_
    have r_18 : inR (lg (a1 + 3)) := hT.2.2.2.2.2.2.2.2.1 (a1 + 3)
    refine lv_aload_n hx hb dX4_act_37 rfl (lv_at hl 1 rfl) ?_
    refine z_get (k := 2) hx hb hts in_X4 hown hK hT.1 rfl (by decide) q2333 rfl (v := .ref t.2.2.2.1) rfl dX4_act_38 ?_
    refine lv_iload_n hx hb dX4_act_41 rfl (lv_at hl 2 rfl) ?_
    refine lv_iconst (v := iI 4) hx hb dX4_act_42 rfl ?_
    refine z_iadd (x := a1) (y := 4) hx hb dX4_act_43 ?_
    refine z_ildZ (i := a1 + 4) (f := lg) hx hb hK hT.2.2.2.1 ⟨by omega, by omega⟩ (by decide) dX4_act_44 ?_
    have r_19 : inR (lg (a1 + 4)) := hT.2.2.2.2.2.2.2.2.1 (a1 + 4)
    refine lv_aload_n hx hb dX4_act_45 rfl (lv_at hl 1 rfl) ?_
    refine z_get (k := 2) hx hb hts in_X4 hown hK hT.1 rfl (by decide) q2333 rfl (v := .ref t.2.2.2.1) rfl dX4_act_46 ?_
    refine lv_iload_n hx hb dX4_act_49 rfl (lv_at hl 2 rfl) ?_
    refine lv_iconst (v := iI 5) hx hb dX4_act_50 rfl ?_
    refine z_iadd (x := a1) (y := 5) hx hb dX4_act_51 ?_
    refine z_ildZ (i := a1 + 5) (f := lg) hx hb hK hT.2.2.2.1 ⟨by omega, by omega⟩ (by decide) dX4_act_52 ?_
    have r_20 : inR (lg (a1 + 5)) := hT.2.2.2.2.2.2.2.2.1 (a1 + 5)
    refine z_callm (v := .int (iI (kA (tC_edit w (lg (a1 + 1)) (lg (a1 + 2)) (lg (a1 + 3)) (lg (a1 + 4)) (lg (a1 + 5))) (tA_edit w (lg (a1 + 1)) (lg (a1 + 2)) (lg (a1 + 3)) (lg (a1 + 4)) (lg (a1 + 5)))))) (P := (fun H1 => zT G t (kW (tC_edit w (lg (a1 + 1)) (lg (a1 + 2)) (lg (a1 + 3)) (lg (a1 + 4)) (lg (a1 + 5))) w (tW_edit w (lg (a1 + 1)) (lg (a1 + 2)) (lg (a1 + 3)) (lg (a1 + 4)) (lg (a1 + 5)))) kp (kL 1 (tC_edit w (lg (a1 + 1)) (lg (a1 + 2)) (lg (a1 + 3)) (lg (a1 + 4)) (lg (a1 + 5))) ev lg 5 (lg (a1 + 1)) (lg (a1 + 2)) (lg (a1 + 3)) (lg (a1 + 4)) (lg (a1 + 5))) (kH 1 (tC_edit w (lg (a1 + 1)) (lg (a1 + 2)) (lg (a1 + 3)) (lg (a1 + 4)) (lg (a1 + 5))) ev hr (tW_edit w (lg (a1 + 1)) (lg (a1 + 2)) (lg (a1 + 3)) (lg (a1 + 4)) (lg (a1 + 5)) 0)) (kE 1 (tC_edit w (lg (a1 + 1)) (lg (a1 + 2)) (lg (a1 + 3)) (lg (a1 + 4)) (lg (a1 + 5))) ev) 1 (tC_edit w (lg (a1 + 1)) (lg (a1 + 2)) (lg (a1 + 3)) (lg (a1 + 4)) (lg (a1 + 5))) H1)) (vx_runV (As := [.int (iI (lg (a1 + 1))), .int (iI (lg (a1 + 2))), .int (iI (lg (a1 + 3))), .int (iI (lg (a1 + 4))), .int (iI (lg (a1 + 5)))]) (rest := []) ⟨hx, hb, hml, hown, hts⟩ (tc_edit l hT (a1 := lg (a1 + 1)) (a2 := lg (a1 + 2)) (a3 := lg (a1 + 3)) (a4 := lg (a1 + 4)) (a5 := lg (a1 + 5)) (by first | with_reducible assumption | omega | exact ⟨by omega, by omega⟩ | omega) (by first | with_reducible assumption | omega | exact ⟨by omega, by omega⟩ | omega) (by first | with_reducible assumption | omega | exact ⟨by omega, by omega⟩ | omega) (by first | with_reducible assumption | omega | exact ⟨by omega, by omega⟩ | omega) (by first | with_reducible assumption | omega | exact ⟨by omega, by omega⟩ | omega) (by first | with_reducible assumption | omega | exact ⟨by omega, by omega⟩ | omega) (by first | with_reducible assumption | omega | exact ⟨by omega, by omega⟩ | omega) (by first | with_reducible assumption | omega | exact ⟨by omega, by omega⟩ | omega)) (cwV 5 hts (lw_V q2619 q2454 q2455 q49 q2456) rfl rfl rfl hd_X4_edit ⟨Nat.le_of_ble_eq_true rfl, Nat.le_of_ble_eq_true rfl⟩) (z_preV hK hS (zTw_le hTA hAn hS) hT.1 rfl rfl) rfl rfl hl.1 rfl (lv_room (Nat.le_of_ble_eq_true rfl)) dX4_act_53 ⟨Nat.le_of_ble_eq_true rfl, Nat.le_of_ble_eq_true rfl⟩) hS (zTw_le hTA hAn hS) rfl rfl (fun H locs hT hS => ?_)
    exact z_iret hx hb hret rfl hlocks hS (by rw [kL1, kH1, kE1] at hT; have hk5 : lg a1 = 5 := c_2; rw [show gC w (lg a1) (lg (a1 + 1)) (lg (a1 + 2)) (lg (a1 + 3)) (lg (a1 + 4)) (lg (a1 + 5)) = tC_edit w (lg (a1 + 1)) (lg (a1 + 2)) (lg (a1 + 3)) (lg (a1 + 4)) (lg (a1 + 5)) from by rw [hk5]; rfl, show gW w (lg a1) (lg (a1 + 1)) (lg (a1 + 2)) (lg (a1 + 3)) (lg (a1 + 4)) (lg (a1 + 5)) = tW_edit w (lg (a1 + 1)) (lg (a1 + 2)) (lg (a1 + 3)) (lg (a1 + 4)) (lg (a1 + 5)) from by rw [hk5]; rfl, show gA w (lg a1) (lg (a1 + 1)) (lg (a1 + 2)) (lg (a1 + 3)) (lg (a1 + 4)) (lg (a1 + 5)) = tA_edit w (lg (a1 + 1)) (lg (a1 + 2)) (lg (a1 + 3)) (lg (a1 + 4)) (lg (a1 + 5)) from by rw [hk5]; rfl]; exact ⟨rfl, hT⟩) (Nat.le_of_ble_eq_true rfl) (Nat.le_of_ble_eq_true rfl) dX4_act_56
theorem hn_X4_redo : yX4_redo.cls ≠ "java/lang/invoke/MethodHandle" ∧ yX4_redo.cls ≠ "java/lang/invoke/VarHandle" ∧ (parseMethodDescriptor yX4_redo.desc).map (fun d => d.parameters.length) = some 1 := by decide +kernel
theorem hd_X4_redo : yX4_redo.cls = "CheckoutDeskModel" ∧ yX4_redo.cls ≠ "java/lang/invoke/MethodHandle" ∧ yX4_redo.cls ≠ "java/lang/invoke/VarHandle" ∧ (parseMethodDescriptor yX4_redo.desc).map (fun d => d.parameters.length) = some 1 := ⟨rfl, hn_X4_redo⟩
abbrev rm_X4_redo : Room := { frames := 8, cells := 0, slots := 0, locals := 181 }
set_option maxHeartbeats 1000000 in
theorem tc_redo (l : Launch) {G : zG} {t : zTau} {w kp lg hr : Int → Int} {ev th : Int} {H0 : Heap} (hT : zT G t w kp lg hr ev 0 th H0) {a1 : Int} (ha1 : 0 ≤ a1 ∧ a1 ≤ 2000) (hOK : gOK lg a1) : zM l yX4_redo (ws_ yX4_redo cX4_redo 4 none) rm_X4_redo G (zTw t H0) [.ref t.1, .int (iI a1)] H0 (fun r H1 => r = none ∧ zT G t (gRun lg (a1).toNat) w lg hr ev 0 (tw_rth th (a1).toNat) H1) (fun _ => False) := by
  refine z_enter (by decide +kernel) (Nat.le_of_ble_eq_true rfl) ?_
  intro p e s m args below meth c ls hx hb hret hml hown hts hlocks htab hnm hK hH hl
  subst hH
  have hAn : ∀ q, s.heap.size ≤ q → zTw t s.heap q := fun _ h => Or.inr h
  have hTA : ∀ q, zTA t q → zTw t s.heap q := fun _ h => Or.inl h
  have hS : va_S (zTw t s.heap) s.heap s.heap [] := va_S.rf
  have hl : lv_has ls 4 [(0, .ref t.1), (1, .int (iI a1))] := hl
  have hrd := hT.2.2.2.2.2.2.2.2.2.2.2
  have hev := hT.2.2.2.2.2.2.2.2.2.2.1
  have hwR := hT.2.2.2.2.2.2.1
  refine lv_iconst (v := iI 0) hx hb dX4_redo_0 rfl ?_
  refine lv_istore_n (lv' := [(2, .int (iI 0)), (0, .ref t.1), (1, .int (iI a1))]) hx hb dX4_redo_1 rfl hl (by decide) rfl (fun ls hl => ?_)
  refine z_loopH (A := zTw t s.heap) (H0 := s.heap) (nL := 4) (hd := 2) (fun i_1 : Nat => [(2, .int (iI ((i_1 : Nat) : Int))), (0, .ref t.1), (1, .int (iI a1))]) (fun (i_1 : Nat) (H : Heap) => (i_1 : Int) ≤ 873 ∧ zT G t w (tw_cpy w kp i_1) lg hr ev 0 th H) (fun _ => 0) (fun _ => 0) (fun i_1 : Nat => (873 : Int).toNat - i_1) (fun i_1 H locs hi_1 hS ih_2 ls hl => ?_) 0 _ _ ?_ hS ls (z_lvren (lv_sub hl [0, 1, 2] rfl) (by rfl))
  · have hl : lv_has ls 4 [(2, .int (iI ((i_1 : Nat) : Int))), (0, .ref t.1), (1, .int (iI a1))] := hl
    obtain ⟨hi_1, hT⟩ : (i_1 : Int) ≤ 873 ∧ zT G t w (tw_cpy w kp i_1) lg hr ev 0 th H := hi_1
    refine lv_iload_n hx hb dX4_redo_2 rfl (lv_at hl 0 rfl) ?_
    refine lv_sipush (v := iI 873) hx hb dX4_redo_3 (by decide) ?_
    refine z_icmp_ge (x := ((i_1 : Nat) : Int)) (y := 873) (tgt := 27) hx hb (by first | with_reducible assumption | omega | exact ⟨by omega, by omega⟩) (by decide) dX4_redo_6 (by decide) (fun c_3 => ?_) (fun c_3 => ?_)
    · obtain rfl : i_1 = 873 := by omega
      have hT := hT.congrK (kp' := w) (by intro k h0 h1; unfold tw_cpy; rw [if_pos (by omega)]) hT.2.2.2.2.2.2.1
      refine lv_aload_n hx hb dX4_redo_27 rfl (lv_at hl 1 rfl) ?_
      refine z_callmv (P := (fun H1 => zT G t tw_w0 w lg hr ev 0 th H1)) (vx_runV (As := []) (rest := []) ⟨hx, hb, hml, hown, hts⟩ (tc_clear l hT ) (cwV 0 hts (lw_V q2327 q2329 qs10 q49 q2330) rfl rfl rfl hd_X4_clear ⟨Nat.le_of_ble_eq_true rfl, Nat.le_of_ble_eq_true rfl⟩) (z_preV hK hS (zTw_le hTA hAn hS) hT.1 rfl rfl) rfl rfl hl.1 rfl (lv_room (Nat.le_of_ble_eq_true rfl)) dX4_redo_28 ⟨Nat.le_of_ble_eq_true rfl, Nat.le_of_ble_eq_true rfl⟩) hS (zTw_le hTA hAn hS) rfl rfl (fun H locs hT hS => ?_)
      refine lv_aload_n hx hb dX4_redo_31 rfl (lv_at hl 1 rfl) ?_
      refine lv_iconst (v := iI 1) hx hb dX4_redo_32 rfl ?_
      refine zt_rd (x := 1) hx hb hts hown hK q2336 hT hTA hS (by decide) dX4_redo_33 (fun H locs hT hS => ?_)
      refine lv_iconst (v := iI 0) hx hb dX4_redo_36 rfl ?_
      refine lv_istore_n (lv' := [(2, .int (iI 0)), (0, .ref t.1), (1, .int (iI a1))]) hx hb dX4_redo_37 rfl hl (by decide) rfl (fun ls hl => ?_)
      refine lv_iconst (v := iI 0) hx hb dX4_redo_38 rfl ?_
      refine lv_istore_n (lv' := [(3, .int (iI 0)), (2, .int (iI 0)), (0, .ref t.1), (1, .int (iI a1))]) hx hb dX4_redo_39 rfl hl (by decide) rfl (fun ls hl => ?_)
      refine z_loopH (A := zTw t s.heap) (H0 := s.heap) (nL := 4) (hd := 40) (fun i_4 : Nat => [(3, .int (iI ((i_4 : Nat) : Int))), (0, .ref t.1), (1, .int (iI a1))]) (fun (i_4 : Nat) (H : Heap) => (i_4 : Int) ≤ a1 ∧ zT G t (gRun lg i_4) w lg hr ev 1 (tw_rth th i_4) H) (fun _ => 0) (fun _ => 0) (fun i_4 : Nat => (a1 : Int).toNat - i_4) (fun i_4 H locs hi_4 hS ih_5 ls hl => ?_) 0 _ _ ?_ hS ls (z_lvren (lv_sub hl [0, 2, 3] rfl) (by rfl))
      · have hl : lv_has ls 4 [(3, .int (iI ((i_4 : Nat) : Int))), (0, .ref t.1), (1, .int (iI a1))] := hl
        obtain ⟨hi_4, hT⟩ : (i_4 : Int) ≤ a1 ∧ zT G t (gRun lg i_4) w lg hr ev 1 (tw_rth th i_4) H := hi_4
        have hIi := fun h => gInv hOK i_4 h
        have hki := fun h => (hOK i_4 h).1
        refine lv_iload_n hx hb dX4_redo_40 rfl (lv_at hl 0 rfl) ?_
        refine lv_iload_n hx hb dX4_redo_41 rfl (lv_at hl 2 rfl) ?_
        refine z_icmp_ge (x := ((i_4 : Nat) : Int)) (y := a1) (tgt := 60) hx hb (by first | with_reducible assumption | omega | exact ⟨by omega, by omega⟩) (by first | with_reducible assumption | omega | exact ⟨by omega, by omega⟩) dX4_redo_42 (by decide) (fun c_6 => ?_) (fun c_6 => ?_)
        · obtain rfl : i_4 = a1.toNat := by omega
          refine lv_aload_n hx hb dX4_redo_60 rfl (lv_at hl 1 rfl) ?_
          refine lv_iconst (v := iI 0) hx hb dX4_redo_61 rfl ?_
          refine zt_rd (x := 0) hx hb hts hown hK q2336 hT hTA hS (by decide) dX4_redo_62 (fun H locs hT hS => ?_)
          exact z_vret hx hb hret hlocks hS ⟨rfl, hT⟩ (Nat.le_of_ble_eq_true rfl) (Nat.le_of_ble_eq_true rfl) dX4_redo_65
        · have hIi := hIi (by omega)
          have hki := hki c_6
          refine lv_aload_n hx hb dX4_redo_45 rfl (lv_at hl 1 rfl) ?_
          refine lv_bipush (v := iI 6) hx hb dX4_redo_46 (by decide) ?_
          refine lv_iload_n hx hb dX4_redo_48 rfl (lv_at hl 0 rfl) ?_
          refine z_imul (x := 6) (y := ((i_4 : Nat) : Int)) hx hb dX4_redo_49 ?_
          refine z_callm (v := .int (iI (kA (gC (gRun lg i_4) (lg (6 * ((i_4 : Nat) : Int))) (lg (6 * ((i_4 : Nat) : Int) + 1)) (lg (6 * ((i_4 : Nat) : Int) + 2)) (lg (6 * ((i_4 : Nat) : Int) + 3)) (lg (6 * ((i_4 : Nat) : Int) + 4)) (lg (6 * ((i_4 : Nat) : Int) + 5))) (gA (gRun lg i_4) (lg (6 * ((i_4 : Nat) : Int))) (lg (6 * ((i_4 : Nat) : Int) + 1)) (lg (6 * ((i_4 : Nat) : Int) + 2)) (lg (6 * ((i_4 : Nat) : Int) + 3)) (lg (6 * ((i_4 : Nat) : Int) + 4)) (lg (6 * ((i_4 : Nat) : Int) + 5)))))) (P := (fun H1 => zT G t (kW (gC (gRun lg i_4) (lg (6 * ((i_4 : Nat) : Int))) (lg (6 * ((i_4 : Nat) : Int) + 1)) (lg (6 * ((i_4 : Nat) : Int) + 2)) (lg (6 * ((i_4 : Nat) : Int) + 3)) (lg (6 * ((i_4 : Nat) : Int) + 4)) (lg (6 * ((i_4 : Nat) : Int) + 5))) (gRun lg i_4) (gW (gRun lg i_4) (lg (6 * ((i_4 : Nat) : Int))) (lg (6 * ((i_4 : Nat) : Int) + 1)) (lg (6 * ((i_4 : Nat) : Int) + 2)) (lg (6 * ((i_4 : Nat) : Int) + 3)) (lg (6 * ((i_4 : Nat) : Int) + 4)) (lg (6 * ((i_4 : Nat) : Int) + 5)))) w lg hr ev 1 (gC (gRun lg i_4) (lg (6 * ((i_4 : Nat) : Int))) (lg (6 * ((i_4 : Nat) : Int) + 1)) (lg (6 * ((i_4 : Nat) : Int) + 2)) (lg (6 * ((i_4 : Nat) : Int) + 3)) (lg (6 * ((i_4 : Nat) : Int) + 4)) (lg (6 * ((i_4 : Nat) : Int) + 5))) H1)) (vx_runV (As := [.int (iI (6 * ((i_4 : Nat) : Int)))]) (rest := []) ⟨hx, hb, hml, hown, hts⟩ (tc_act l hT (a1 := 6 * ((i_4 : Nat) : Int)) ⟨by omega, by omega⟩ hki hIi (by omega)) (cwV 1 hts (lw_V q2615 q2617 qs36 q49 q2618) rfl rfl rfl hd_X4_act ⟨Nat.le_of_ble_eq_true rfl, Nat.le_of_ble_eq_true rfl⟩) (z_preV hK hS (zTw_le hTA hAn hS) hT.1 rfl rfl) rfl rfl hl.1 rfl (lv_room (Nat.le_of_ble_eq_true rfl)) dX4_redo_50 ⟨Nat.le_of_ble_eq_true rfl, Nat.le_of_ble_eq_true rfl⟩) hS (zTw_le hTA hAn hS) rfl rfl (fun H locs hT hS => ?_)
          refine lv_istore_n (lv' := [(2, .int (iI (kA (gC (gRun lg i_4) (lg (6 * ((i_4 : Nat) : Int))) (lg (6 * ((i_4 : Nat) : Int) + 1)) (lg (6 * ((i_4 : Nat) : Int) + 2)) (lg (6 * ((i_4 : Nat) : Int) + 3)) (lg (6 * ((i_4 : Nat) : Int) + 4)) (lg (6 * ((i_4 : Nat) : Int) + 5))) (gA (gRun lg i_4) (lg (6 * ((i_4 : Nat) : Int))) (lg (6 * ((i_4 : Nat) : Int) + 1)) (lg (6 * ((i_4 : Nat) : Int) + 2)) (lg (6 * ((i_4 : Nat) : Int) + 3)) (lg (6 * ((i_4 : Nat) : Int) + 4)) (lg (6 * ((i_4 : Nat) : Int) + 5)))))), (3, .int (iI ((i_4 : Nat) : Int))), (0, .ref t.1), (1, .int (iI a1))]) hx hb dX4_redo_53 rfl hl (by decide) rfl (fun ls hl => ?_)
          refine lv_iinc (v := iI (((i_4 : Nat) : Int) + 1)) (lv' := [(3, .int (iI (((i_4 : Nat) : Int) + 1))), (2, .int (iI (kA (gC (gRun lg i_4) (lg (6 * ((i_4 : Nat) : Int))) (lg (6 * ((i_4 : Nat) : Int) + 1)) (lg (6 * ((i_4 : Nat) : Int) + 2)) (lg (6 * ((i_4 : Nat) : Int) + 3)) (lg (6 * ((i_4 : Nat) : Int) + 4)) (lg (6 * ((i_4 : Nat) : Int) + 5))) (gA (gRun lg i_4) (lg (6 * ((i_4 : Nat) : Int))) (lg (6 * ((i_4 : Nat) : Int) + 1)) (lg (6 * ((i_4 : Nat) : Int) + 2)) (lg (6 * ((i_4 : Nat) : Int) + 3)) (lg (6 * ((i_4 : Nat) : Int) + 4)) (lg (6 * ((i_4 : Nat) : Int) + 5)))))), (0, .ref t.1), (1, .int (iI a1))]) hx hb dX4_redo_54 hl (k := 1) rfl (iI_add _ _) (by decide) rfl (fun ls hl => ?_)
          refine lv_goto (tgt := 40) hx hb dX4_redo_57 (by decide) ?_
          exact ih_5 (i_4 + 1) _ _ ⟨by omega, (by rw [(hOK i_4 (by omega)).2, kW, if_pos rfl] at hT; exact hT)⟩ hS (by omega) ls (z_lvren (lv_sub hl [0, 2, 3] rfl) (by first | rfl | simp))
      · exact ⟨by omega, hT⟩
    · refine lv_aload_n hx hb dX4_redo_9 rfl (lv_at hl 1 rfl) ?_
      refine z_get (k := 1) hx hb hts in_X4 hown hK hT.1 rfl (by decide) q2332 rfl (v := .ref t.2.2.1) rfl dX4_redo_10 ?_
      refine lv_iload_n hx hb dX4_redo_13 rfl (lv_at hl 0 rfl) ?_
      refine lv_aload_n hx hb dX4_redo_14 rfl (lv_at hl 1 rfl) ?_
      refine z_get (k := 0) hx hb hts in_X4 hown hK hT.1 rfl (by decide) q2331 rfl (v := .ref t.2.1) rfl dX4_redo_15 ?_
      refine lv_iload_n hx hb dX4_redo_18 rfl (lv_at hl 0 rfl) ?_
      refine z_ildZ (i := ((i_1 : Nat) : Int)) (f := w) hx hb hK hT.2.1 ⟨by omega, by omega⟩ (by decide) dX4_redo_19 ?_
      have r_7 : inR (w ((i_1 : Nat) : Int)) := hT.2.2.2.2.2.2.1 ((i_1 : Nat) : Int)
      refine zt_stk (i := ((i_1 : Nat) : Int)) (x := w ((i_1 : Nat) : Int)) hx hb hK hT hTA hS ⟨by omega, by omega⟩ (by first | with_reducible assumption | omega | exact ⟨by omega, by omega⟩) dX4_redo_20 (fun H locs hT hS => ?_)
      refine lv_iinc (v := iI (((i_1 : Nat) : Int) + 1)) (lv' := [(2, .int (iI (((i_1 : Nat) : Int) + 1))), (0, .ref t.1), (1, .int (iI a1))]) hx hb dX4_redo_21 hl (k := 0) rfl (iI_add _ _) (by decide) rfl (fun ls hl => ?_)
      refine lv_goto (tgt := 2) hx hb dX4_redo_24 (by decide) ?_
      exact ih_2 (i_1 + 1) _ _ ⟨by omega, (by rw [← tw_cpy_s]; exact hT)⟩ hS (by omega) ls (z_lvren (lv_sub hl [0, 1, 2] rfl) (by first | rfl | simp))
  · exact ⟨by omega, (by rw [tw_y0]; exact hT)⟩
