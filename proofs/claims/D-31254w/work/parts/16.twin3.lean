set_option maxRecDepth 100000
def tw_ok3 (a b c : Bool) : Int := if a = true then if b = true then if c = true then 0 else 3 else 2 else 1
theorem tw_ok3_0 (a b c : Bool) : (tw_ok3 a b c = 0) = ((a && (b && c)) = true) := by cases a <;> cases b <;> cases c <;> decide
theorem tw_ok3_d (a b c : Bool) : decide (tw_ok3 a b c = 0) = (a && (b && c)) := by cases a <;> cases b <;> cases c <;> decide
theorem tw_ok3_R (a b c : Bool) : inR (tw_ok3 a b c) := by cases a <;> cases b <;> cases c <;> decide
def kW (code : Int) (w w' : Int → Int) : Int → Int := if code = 0 then w' else w
def kA (code ans : Int) : Int := if code = 0 then ans else 0
def lg6 (lg : Int → Int) (ev k a b c d e : Int) : Int → Int := zup (zup (zup (zup (zup (zup lg (6 * ev) k) (6 * ev + 1) a) (6 * ev + 2) b) (6 * ev + 3) c) (6 * ev + 4) d) (6 * ev + 5) e
def kL (rd code ev : Int) (lg : Int → Int) (k a b c d e : Int) : Int → Int := if code = 0 ∧ rd = 0 then lg6 lg ev k a b c d e else lg
def kH (rd code ev : Int) (hr : Int → Int) (h : Int) : Int → Int := if code = 0 ∧ rd = 0 then zup hr ev h else hr
def kE (rd code ev : Int) : Int := if code = 0 ∧ rd = 0 then ev + 1 else ev
theorem z_okend {G : zG} {t : zTau} {w w' kp lg hr : Int → Int} {ev rd k a b c d e ans code h h' : Int} {H : Heap} (hc : code = 0) (hh : h = h') (hT : zT G t w' kp (kL rd 0 ev lg k a b c d e) (kH rd 0 ev hr h) (kE rd 0 ev) rd code H) : some (Value.int (iI ans)) = some (Value.int (iI (kA code ans))) ∧ zT G t (kW code w w') kp (kL rd code ev lg k a b c d e) (kH rd code ev hr h') (kE rd code ev) rd code H := by
  subst hc; subst hh
  exact ⟨by rw [kA, if_pos rfl], by rw [kW, if_pos rfl]; exact hT⟩
theorem z_noend {G : zG} {t : zTau} {w w' kp lg hr : Int → Int} {ev rd k a b c d e ans code h : Int} {H : Heap} (hc : ¬ code = 0) (hT : zT G t w kp lg hr ev rd code H) : some (Value.int (iI 0)) = some (Value.int (iI (kA code ans))) ∧ zT G t (kW code w w') kp (kL rd code ev lg k a b c d e) (kH rd code ev hr h) (kE rd code ev) rd code H := by
  have hc' : ¬ (code = 0 ∧ rd = 0) := fun q => hc q.1
  exact ⟨by rw [kA, if_neg hc], by rw [kW, if_neg hc, kL, if_neg hc', kH, if_neg hc', kE, if_neg hc']; exact hT⟩
theorem hn_X4_ok_2 : yX4_ok_2.cls ≠ "java/lang/invoke/MethodHandle" ∧ yX4_ok_2.cls ≠ "java/lang/invoke/VarHandle" ∧ (parseMethodDescriptor yX4_ok_2.desc).map (fun d => d.parameters.length) = some 3 := by decide +kernel
theorem hd_X4_ok_2 : yX4_ok_2.cls = "CheckoutDeskModel" ∧ yX4_ok_2.cls ≠ "java/lang/invoke/MethodHandle" ∧ yX4_ok_2.cls ≠ "java/lang/invoke/VarHandle" ∧ (parseMethodDescriptor yX4_ok_2.desc).map (fun d => d.parameters.length) = some 3 := ⟨rfl, hn_X4_ok_2⟩
abbrev rm_X4_ok_2 : Room := { frames := 1, cells := 0, slots := 0, locals := 16 }
set_option maxHeartbeats 1000000 in
theorem tc_ok_2 (l : Launch) {G : zG} {t : zTau} {w kp lg hr : Int → Int} {ev rd th : Int} {H0 : Heap} (hT : zT G t w kp lg hr ev rd th H0) {ba : Bool} {bb : Bool} {bc : Bool}  : zM l yX4_ok_2 (ws_ yX4_ok_2 cX4_ok_2 4 (some .boolean)) rm_X4_ok_2 G (zTw t H0) [.ref t.1, .int (iI (bI ba)), .int (iI (bI bb)), .int (iI (bI bc))] H0 (fun r H1 => r = some (.int (iI (bI (ba && (bb && bc))))) ∧ zT G t w kp lg hr ev rd (tw_ok3 ba bb bc) H1) (fun _ => False) := by
  refine z_enter (by decide +kernel) (Nat.le_of_ble_eq_true rfl) ?_
  intro p e s m args below meth c ls hx hb hret hml hown hts hlocks htab hnm hK hH hl
  subst hH
  have hAn : ∀ q, s.heap.size ≤ q → zTw t s.heap q := fun _ h => Or.inr h
  have hTA : ∀ q, zTA t q → zTw t s.heap q := fun _ h => Or.inl h
  have hS : va_S (zTw t s.heap) s.heap s.heap [] := va_S.rf
  have hl : lv_has ls 4 [(0, .ref t.1), (1, .int (iI (bI ba))), (2, .int (iI (bI bb))), (3, .int (iI (bI bc)))] := hl
  have hrd := hT.2.2.2.2.2.2.2.2.2.2.2
  have hev := hT.2.2.2.2.2.2.2.2.2.2.1
  have hwR := hT.2.2.2.2.2.2.1
  refine lv_aload_n hx hb dX4_ok_2_0 rfl (lv_at hl 0 rfl) ?_
  refine lv_iload_n hx hb dX4_ok_2_1 rfl (lv_at hl 1 rfl) ?_
  refine z_join (pc2 := 26) (nL := 4) (lv := [(0, .ref t.1), (1, .int (iI (bI ba))), (2, .int (iI (bI bb))), (3, .int (iI (bI bc)))]) (st2 := [.int (iI (tw_ok3 ba bb bc)), .ref t.1]) hS (fun J_1 => ?_) (fun locs ls hS hl => ?_)
  · refine z_ifb_eq (b := ba) (tgt := 25) hx hb dX4_ok_2_2 (by decide) (fun c_2 => ?_) (fun c_2 => ?_)
    · refine lv_iconst (v := iI 1) hx hb dX4_ok_2_25 rfl ?_
      refine z_top (x := 1) (y := tw_ok3 ba bb bc) (by simp [tw_ok3, c_2]) ?_
      exact J_1 _ ls hS (lv_sub hl [0, 1, 2, 3] rfl)
    · refine lv_iload_n hx hb dX4_ok_2_5 rfl (lv_at hl 2 rfl) ?_
      refine z_ifb_eq (b := bb) (tgt := 21) hx hb dX4_ok_2_6 (by decide) (fun c_3 => ?_) (fun c_3 => ?_)
      · refine lv_iconst (v := iI 2) hx hb dX4_ok_2_21 rfl ?_
        refine lv_goto (tgt := 26) hx hb dX4_ok_2_22 (by decide) ?_
        refine z_top (x := 2) (y := tw_ok3 ba bb bc) (by simp [tw_ok3, c_2, c_3]) ?_
        exact J_1 _ ls hS (lv_sub hl [0, 1, 2, 3] rfl)
      · refine lv_iload_n hx hb dX4_ok_2_9 rfl (lv_at hl 3 rfl) ?_
        refine z_ifb_eq (b := bc) (tgt := 17) hx hb dX4_ok_2_10 (by decide) (fun c_4 => ?_) (fun c_4 => ?_)
        · refine lv_iconst (v := iI 3) hx hb dX4_ok_2_17 rfl ?_
          refine lv_goto (tgt := 26) hx hb dX4_ok_2_18 (by decide) ?_
          refine z_top (x := 3) (y := tw_ok3 ba bb bc) (by simp [tw_ok3, c_2, c_3, c_4]) ?_
          exact J_1 _ ls hS (lv_sub hl [0, 1, 2, 3] rfl)
        · refine lv_iconst (v := iI 0) hx hb dX4_ok_2_13 rfl ?_
          refine lv_goto (tgt := 26) hx hb dX4_ok_2_14 (by decide) ?_
          refine z_top (x := 0) (y := tw_ok3 ba bb bc) (by simp [tw_ok3, c_2, c_3, c_4]) ?_
          exact J_1 _ ls hS (lv_sub hl [0, 1, 2, 3] rfl)
  · refine zt_th (x := tw_ok3 ba bb bc) hx hb hts hown hK q2337 hT hTA hS dX4_ok_2_26 (fun H locs hT hS => ?_)
    refine lv_aload_n hx hb dX4_ok_2_29 rfl (lv_at hl 0 rfl) ?_
    refine z_get (k := 6) hx hb hts in_X4 hown hK hT.1 rfl (by decide) q2337 rfl (v := .int (iI (tw_ok3 ba bb bc))) rfl dX4_ok_2_30 ?_
    refine z_join (pc2 := 41) (nL := 4) (lv := [(0, .ref t.1), (1, .int (iI (bI ba))), (2, .int (iI (bI bb))), (3, .int (iI (bI bc)))]) (st2 := [.int (iI (bI (decide (tw_ok3 ba bb bc = 0))))]) hS (fun J_5 => ?_) (fun locs ls hS hl => ?_)
    · refine z_if_ne (x := tw_ok3 ba bb bc) (tgt := 40) hx hb (tw_ok3_R _ _ _) dX4_ok_2_33 (by decide) (fun c_6 => ?_) (fun c_6 => ?_)
      · refine lv_iconst (v := iI 0) hx hb dX4_ok_2_40 rfl ?_
        refine z_top (x := 0) (y := bI (decide (tw_ok3 ba bb bc = 0))) (by simp [bI, c_6]) ?_
        exact J_5 _ ls hS (lv_sub hl [0, 1, 2, 3] rfl)
      · refine lv_iconst (v := iI 1) hx hb dX4_ok_2_36 rfl ?_
        refine lv_goto (tgt := 41) hx hb dX4_ok_2_37 (by decide) ?_
        refine z_top (x := 1) (y := bI (decide (tw_ok3 ba bb bc = 0))) (by simp [bI, c_6]) ?_
        exact J_5 _ ls hS (lv_sub hl [0, 1, 2, 3] rfl)
    · exact z_iret hx hb hret (z_nar _) hlocks hS ⟨by rw [tw_ok3_d], hT⟩ (Nat.le_of_ble_eq_true rfl) (Nat.le_of_ble_eq_true rfl) dX4_ok_2_41
theorem hn_X4_ok : yX4_ok.cls ≠ "java/lang/invoke/MethodHandle" ∧ yX4_ok.cls ≠ "java/lang/invoke/VarHandle" ∧ (parseMethodDescriptor yX4_ok.desc).map (fun d => d.parameters.length) = some 2 := by decide +kernel
theorem hd_X4_ok : yX4_ok.cls = "CheckoutDeskModel" ∧ yX4_ok.cls ≠ "java/lang/invoke/MethodHandle" ∧ yX4_ok.cls ≠ "java/lang/invoke/VarHandle" ∧ (parseMethodDescriptor yX4_ok.desc).map (fun d => d.parameters.length) = some 2 := ⟨rfl, hn_X4_ok⟩
abbrev rm_X4_ok : Room := { frames := 2, cells := 0, slots := 0, locals := 39 }
set_option maxHeartbeats 1000000 in
theorem tc_ok (l : Launch) {G : zG} {t : zTau} {w kp lg hr : Int → Int} {ev rd th : Int} {H0 : Heap} (hT : zT G t w kp lg hr ev rd th H0) {ba : Bool} {bb : Bool}  : zM l yX4_ok (ws_ yX4_ok cX4_ok 3 (some .boolean)) rm_X4_ok G (zTw t H0) [.ref t.1, .int (iI (bI ba)), .int (iI (bI bb))] H0 (fun r H1 => r = some (.int (iI (bI (ba && bb)))) ∧ zT G t w kp lg hr ev rd (tw_ok3 ba bb true) H1) (fun _ => False) := by
  refine z_enter (by decide +kernel) (Nat.le_of_ble_eq_true rfl) ?_
  intro p e s m args below meth c ls hx hb hret hml hown hts hlocks htab hnm hK hH hl
  subst hH
  have hAn : ∀ q, s.heap.size ≤ q → zTw t s.heap q := fun _ h => Or.inr h
  have hTA : ∀ q, zTA t q → zTw t s.heap q := fun _ h => Or.inl h
  have hS : va_S (zTw t s.heap) s.heap s.heap [] := va_S.rf
  have hl : lv_has ls 3 [(0, .ref t.1), (1, .int (iI (bI ba))), (2, .int (iI (bI bb)))] := hl
  have hrd := hT.2.2.2.2.2.2.2.2.2.2.2
  have hev := hT.2.2.2.2.2.2.2.2.2.2.1
  have hwR := hT.2.2.2.2.2.2.1
  refine lv_aload_n hx hb dX4_ok_0 rfl (lv_at hl 0 rfl) ?_
  refine lv_iload_n hx hb dX4_ok_1 rfl (lv_at hl 1 rfl) ?_
  refine lv_iload_n hx hb dX4_ok_2 rfl (lv_at hl 2 rfl) ?_
  refine lv_iconst (v := iI 1) hx hb dX4_ok_3 rfl ?_
  refine z_callm (v := .int (iI (bI (ba && (bb && true))))) (P := (fun H1 => zT G t w kp lg hr ev rd (tw_ok3 ba bb true) H1)) (vx_runV (As := [.int (iI (bI ba)), .int (iI (bI bb)), .int (iI 1)]) (rest := []) ⟨hx, hb, hml, hown, hts⟩ (tc_ok_2 l hT (ba := ba) (bb := bb) (bc := true)) (cwV 3 hts (lw_V q2372 q2374 qs12 q49 q2375) rfl rfl rfl hd_X4_ok_2 ⟨Nat.le_of_ble_eq_true rfl, Nat.le_of_ble_eq_true rfl⟩) (z_preV hK hS (zTw_le hTA hAn hS) hT.1 rfl rfl) rfl rfl hl.1 rfl (lv_room (Nat.le_of_ble_eq_true rfl)) dX4_ok_4 ⟨Nat.le_of_ble_eq_true rfl, Nat.le_of_ble_eq_true rfl⟩) hS (zTw_le hTA hAn hS) rfl rfl (fun H locs hT hS => ?_)
  exact z_iret hx hb hret (z_nar _) hlocks hS ⟨by simp, hT⟩ (Nat.le_of_ble_eq_true rfl) (Nat.le_of_ble_eq_true rfl) dX4_ok_7
theorem hn_X4_ok_3 : yX4_ok_3.cls ≠ "java/lang/invoke/MethodHandle" ∧ yX4_ok_3.cls ≠ "java/lang/invoke/VarHandle" ∧ (parseMethodDescriptor yX4_ok_3.desc).map (fun d => d.parameters.length) = some 1 := by decide +kernel
theorem hd_X4_ok_3 : yX4_ok_3.cls = "CheckoutDeskModel" ∧ yX4_ok_3.cls ≠ "java/lang/invoke/MethodHandle" ∧ yX4_ok_3.cls ≠ "java/lang/invoke/VarHandle" ∧ (parseMethodDescriptor yX4_ok_3.desc).map (fun d => d.parameters.length) = some 1 := ⟨rfl, hn_X4_ok_3⟩
abbrev rm_X4_ok_3 : Room := { frames := 2, cells := 0, slots := 0, locals := 39 }
set_option maxHeartbeats 1000000 in
theorem tc_ok_3 (l : Launch) {G : zG} {t : zTau} {w kp lg hr : Int → Int} {ev rd th : Int} {H0 : Heap} (hT : zT G t w kp lg hr ev rd th H0) {ba : Bool}  : zM l yX4_ok_3 (ws_ yX4_ok_3 cX4_ok_3 2 (some .boolean)) rm_X4_ok_3 G (zTw t H0) [.ref t.1, .int (iI (bI ba))] H0 (fun r H1 => r = some (.int (iI (bI ba))) ∧ zT G t w kp lg hr ev rd (tw_ok3 ba true true) H1) (fun _ => False) := by
  refine z_enter (by decide +kernel) (Nat.le_of_ble_eq_true rfl) ?_
  intro p e s m args below meth c ls hx hb hret hml hown hts hlocks htab hnm hK hH hl
  subst hH
  have hAn : ∀ q, s.heap.size ≤ q → zTw t s.heap q := fun _ h => Or.inr h
  have hTA : ∀ q, zTA t q → zTw t s.heap q := fun _ h => Or.inl h
  have hS : va_S (zTw t s.heap) s.heap s.heap [] := va_S.rf
  have hl : lv_has ls 2 [(0, .ref t.1), (1, .int (iI (bI ba)))] := hl
  have hrd := hT.2.2.2.2.2.2.2.2.2.2.2
  have hev := hT.2.2.2.2.2.2.2.2.2.2.1
  have hwR := hT.2.2.2.2.2.2.1
  refine lv_aload_n hx hb dX4_ok_3_0 rfl (lv_at hl 0 rfl) ?_
  refine lv_iload_n hx hb dX4_ok_3_1 rfl (lv_at hl 1 rfl) ?_
  refine lv_iconst (v := iI 1) hx hb dX4_ok_3_2 rfl ?_
  refine lv_iconst (v := iI 1) hx hb dX4_ok_3_3 rfl ?_
  refine z_callm (v := .int (iI (bI (ba && (true && true))))) (P := (fun H1 => zT G t w kp lg hr ev rd (tw_ok3 ba true true) H1)) (vx_runV (As := [.int (iI (bI ba)), .int (iI 1), .int (iI 1)]) (rest := []) ⟨hx, hb, hml, hown, hts⟩ (tc_ok_2 l hT (ba := ba) (bb := true) (bc := true)) (cwV 3 hts (lw_V q2372 q2374 qs12 q49 q2375) rfl rfl rfl hd_X4_ok_2 ⟨Nat.le_of_ble_eq_true rfl, Nat.le_of_ble_eq_true rfl⟩) (z_preV hK hS (zTw_le hTA hAn hS) hT.1 rfl rfl) rfl rfl hl.1 rfl (lv_room (Nat.le_of_ble_eq_true rfl)) dX4_ok_3_4 ⟨Nat.le_of_ble_eq_true rfl, Nat.le_of_ble_eq_true rfl⟩) hS (zTw_le hTA hAn hS) rfl rfl (fun H locs hT hS => ?_)
  exact z_iret hx hb hret (z_nar _) hlocks hS ⟨by simp, hT⟩ (Nat.le_of_ble_eq_true rfl) (Nat.le_of_ble_eq_true rfl) dX4_ok_3_7
theorem hn_X4_keep : yX4_keep.cls ≠ "java/lang/invoke/MethodHandle" ∧ yX4_keep.cls ≠ "java/lang/invoke/VarHandle" ∧ (parseMethodDescriptor yX4_keep.desc).map (fun d => d.parameters.length) = some 6 := by decide +kernel
theorem hd_X4_keep : yX4_keep.cls = "CheckoutDeskModel" ∧ yX4_keep.cls ≠ "java/lang/invoke/MethodHandle" ∧ yX4_keep.cls ≠ "java/lang/invoke/VarHandle" ∧ (parseMethodDescriptor yX4_keep.desc).map (fun d => d.parameters.length) = some 6 := ⟨rfl, hn_X4_keep⟩
abbrev rm_X4_keep : Room := { frames := 1, cells := 0, slots := 0, locals := 16 }
set_option maxHeartbeats 1000000 in
theorem tc_keep (l : Launch) {G : zG} {t : zTau} {w kp lg hr : Int → Int} {ev rd th : Int} {H0 : Heap} (hT : zT G t w kp lg hr ev rd th H0) {k0 a1 a2 a3 a4 a5 : Int} (hk0 : inR k0) (ha1 : inR a1) (ha2 : inR a2) (ha3 : inR a3) (ha4 : inR a4) (ha5 : inR a5) (hev2 : rd = 0 → ev < 2000) : zM l yX4_keep (ws_ yX4_keep cX4_keep 8 none) rm_X4_keep G (zTw t H0) [.ref t.1, .int (iI k0), .int (iI a1), .int (iI a2), .int (iI a3), .int (iI a4), .int (iI a5)] H0 (fun r H1 => r = none ∧ zT G t w kp (kL rd 0 ev lg k0 a1 a2 a3 a4 a5) (kH rd 0 ev hr (w 0)) (kE rd 0 ev) rd th H1) (fun _ => False) := by
  refine z_enter (by decide +kernel) (Nat.le_of_ble_eq_true rfl) ?_
  intro p e s m args below meth c ls hx hb hret hml hown hts hlocks htab hnm hK hH hl
  subst hH
  have hAn : ∀ q, s.heap.size ≤ q → zTw t s.heap q := fun _ h => Or.inr h
  have hTA : ∀ q, zTA t q → zTw t s.heap q := fun _ h => Or.inl h
  have hS : va_S (zTw t s.heap) s.heap s.heap [] := va_S.rf
  have hl : lv_has ls 8 [(0, .ref t.1), (1, .int (iI k0)), (2, .int (iI a1)), (3, .int (iI a2)), (4, .int (iI a3)), (5, .int (iI a4)), (6, .int (iI a5))] := hl
  have hrd := hT.2.2.2.2.2.2.2.2.2.2.2
  have hev := hT.2.2.2.2.2.2.2.2.2.2.1
  have hwR := hT.2.2.2.2.2.2.1
  refine lv_aload_n hx hb dX4_keep_0 rfl (lv_at hl 0 rfl) ?_
  refine z_get (k := 5) hx hb hts in_X4 hown hK hT.1 rfl (by decide) q2336 rfl (v := .int (iI rd)) rfl dX4_keep_1 ?_
  refine z_if_eq (x := rd) (tgt := 8) hx hb (by first | assumption | exact ⟨by omega, by omega⟩) dX4_keep_4 (by decide) (fun c_1 => ?_) (fun c_1 => ?_)
  · have hev3 := hev2 c_1
    refine lv_bipush (v := iI 6) hx hb dX4_keep_8 (by decide) ?_
    refine lv_aload_n hx hb dX4_keep_10 rfl (lv_at hl 0 rfl) ?_
    refine z_get (k := 4) hx hb hts in_X4 hown hK hT.1 rfl (by decide) q2335 rfl (v := .int (iI ev)) rfl dX4_keep_11 ?_
    refine z_imul (x := 6) (y := ev) hx hb dX4_keep_14 ?_
    refine lv_istore (lv' := [(7, .int (iI (6 * ev))), (0, .ref t.1), (1, .int (iI k0)), (2, .int (iI a1)), (3, .int (iI a2)), (4, .int (iI a3)), (5, .int (iI a4)), (6, .int (iI a5))]) hx hb dX4_keep_15 hl (by decide) rfl (fun ls hl => ?_)
    refine lv_aload_n hx hb dX4_keep_17 rfl (lv_at hl 1 rfl) ?_
    refine z_get (k := 2) hx hb hts in_X4 hown hK hT.1 rfl (by decide) q2333 rfl (v := .ref t.2.2.2.1) rfl dX4_keep_18 ?_
    refine lv_iload hx hb dX4_keep_21 (lv_at hl 0 rfl) ?_
    refine lv_iload_n hx hb dX4_keep_23 rfl (lv_at hl 2 rfl) ?_
    refine zt_stl (i := 6 * ev) (x := k0) hx hb hK hT hTA hS ⟨by omega, by omega⟩ (by first | assumption | exact ⟨by omega, by omega⟩) dX4_keep_24 (fun H locs hT hS => ?_)
    refine lv_aload_n hx hb dX4_keep_25 rfl (lv_at hl 1 rfl) ?_
    refine z_get (k := 2) hx hb hts in_X4 hown hK hT.1 rfl (by decide) q2333 rfl (v := .ref t.2.2.2.1) rfl dX4_keep_26 ?_
    refine lv_iload hx hb dX4_keep_29 (lv_at hl 0 rfl) ?_
    refine lv_iconst (v := iI 1) hx hb dX4_keep_31 rfl ?_
    refine z_iadd (x := 6 * ev) (y := 1) hx hb dX4_keep_32 ?_
    refine lv_iload_n hx hb dX4_keep_33 rfl (lv_at hl 3 rfl) ?_
    refine zt_stl (i := 6 * ev + 1) (x := a1) hx hb hK hT hTA hS ⟨by omega, by omega⟩ (by first | assumption | exact ⟨by omega, by omega⟩) dX4_keep_34 (fun H locs hT hS => ?_)
    refine lv_aload_n hx hb dX4_keep_35 rfl (lv_at hl 1 rfl) ?_
    refine z_get (k := 2) hx hb hts in_X4 hown hK hT.1 rfl (by decide) q2333 rfl (v := .ref t.2.2.2.1) rfl dX4_keep_36 ?_
    refine lv_iload hx hb dX4_keep_39 (lv_at hl 0 rfl) ?_
    refine lv_iconst (v := iI 2) hx hb dX4_keep_41 rfl ?_
    refine z_iadd (x := 6 * ev) (y := 2) hx hb dX4_keep_42 ?_
    refine lv_iload_n hx hb dX4_keep_43 rfl (lv_at hl 4 rfl) ?_
    refine zt_stl (i := 6 * ev + 2) (x := a2) hx hb hK hT hTA hS ⟨by omega, by omega⟩ (by first | assumption | exact ⟨by omega, by omega⟩) dX4_keep_44 (fun H locs hT hS => ?_)
    refine lv_aload_n hx hb dX4_keep_45 rfl (lv_at hl 1 rfl) ?_
    refine z_get (k := 2) hx hb hts in_X4 hown hK hT.1 rfl (by decide) q2333 rfl (v := .ref t.2.2.2.1) rfl dX4_keep_46 ?_
    refine lv_iload hx hb dX4_keep_49 (lv_at hl 0 rfl) ?_
    refine lv_iconst (v := iI 3) hx hb dX4_keep_51 rfl ?_
    refine z_iadd (x := 6 * ev) (y := 3) hx hb dX4_keep_52 ?_
    refine lv_iload hx hb dX4_keep_53 (lv_at hl 5 rfl) ?_
    refine zt_stl (i := 6 * ev + 3) (x := a3) hx hb hK hT hTA hS ⟨by omega, by omega⟩ (by first | assumption | exact ⟨by omega, by omega⟩) dX4_keep_55 (fun H locs hT hS => ?_)
    refine lv_aload_n hx hb dX4_keep_56 rfl (lv_at hl 1 rfl) ?_
    refine z_get (k := 2) hx hb hts in_X4 hown hK hT.1 rfl (by decide) q2333 rfl (v := .ref t.2.2.2.1) rfl dX4_keep_57 ?_
    refine lv_iload hx hb dX4_keep_60 (lv_at hl 0 rfl) ?_
    refine lv_iconst (v := iI 4) hx hb dX4_keep_62 rfl ?_
    refine z_iadd (x := 6 * ev) (y := 4) hx hb dX4_keep_63 ?_
    refine lv_iload hx hb dX4_keep_64 (lv_at hl 6 rfl) ?_
    refine zt_stl (i := 6 * ev + 4) (x := a4) hx hb hK hT hTA hS ⟨by omega, by omega⟩ (by first | assumption | exact ⟨by omega, by omega⟩) dX4_keep_66 (fun H locs hT hS => ?_)
    refine lv_aload_n hx hb dX4_keep_67 rfl (lv_at hl 1 rfl) ?_
    refine z_get (k := 2) hx hb hts in_X4 hown hK hT.1 rfl (by decide) q2333 rfl (v := .ref t.2.2.2.1) rfl dX4_keep_68 ?_
    refine lv_iload hx hb dX4_keep_71 (lv_at hl 0 rfl) ?_
    refine lv_iconst (v := iI 5) hx hb dX4_keep_73 rfl ?_
    refine z_iadd (x := 6 * ev) (y := 5) hx hb dX4_keep_74 ?_
    refine lv_iload hx hb dX4_keep_75 (lv_at hl 7 rfl) ?_
    refine zt_stl (i := 6 * ev + 5) (x := a5) hx hb hK hT hTA hS ⟨by omega, by omega⟩ (by first | assumption | exact ⟨by omega, by omega⟩) dX4_keep_77 (fun H locs hT hS => ?_)
    refine lv_aload_n hx hb dX4_keep_78 rfl (lv_at hl 1 rfl) ?_
    refine z_get (k := 3) hx hb hts in_X4 hown hK hT.1 rfl (by decide) q2334 rfl (v := .ref t.2.2.2.2) rfl dX4_keep_79 ?_
    refine lv_aload_n hx hb dX4_keep_82 rfl (lv_at hl 1 rfl) ?_
    refine z_get (k := 4) hx hb hts in_X4 hown hK hT.1 rfl (by decide) q2335 rfl (v := .int (iI ev)) rfl dX4_keep_83 ?_
    refine lv_aload_n hx hb dX4_keep_86 rfl (lv_at hl 1 rfl) ?_
    refine z_get (k := 0) hx hb hts in_X4 hown hK hT.1 rfl (by decide) q2331 rfl (v := .ref t.2.1) rfl dX4_keep_87 ?_
    refine lv_iconst (v := iI 0) hx hb dX4_keep_90 rfl ?_
    refine z_ildZ (i := 0) (f := w) hx hb hK hT.2.1 ⟨by omega, by omega⟩ (by decide) dX4_keep_91 ?_
    have r_2 : inR (w 0) := hT.2.2.2.2.2.2.1 0
    refine zt_sth (i := ev) (x := w 0) hx hb hK hT hTA hS ⟨by omega, by omega⟩ (by first | assumption | exact ⟨by omega, by omega⟩) dX4_keep_92 (fun H locs hT hS => ?_)
    refine lv_aload_n hx hb dX4_keep_93 rfl (lv_at hl 1 rfl) ?_
    refine lv_dup hx hb dX4_keep_94 rfl ?_
    refine z_get (k := 4) hx hb hts in_X4 hown hK hT.1 rfl (by decide) q2335 rfl (v := .int (iI ev)) rfl dX4_keep_95 ?_
    refine lv_iconst (v := iI 1) hx hb dX4_keep_98 rfl ?_
    refine z_iadd (x := ev) (y := 1) hx hb dX4_keep_99 ?_
    refine zt_ev (x := ev + 1) hx hb hts hown hK q2335 hT hTA hS ⟨by omega, by omega⟩ dX4_keep_100 (fun H locs hT hS => ?_)
    exact z_vret hx hb hret hlocks hS (by have hc : ((0 : Int) = 0 ∧ rd = 0) := ⟨rfl, c_1⟩; rw [kL, if_pos hc, kH, if_pos hc, kE, if_pos hc]; exact ⟨rfl, hT⟩) (Nat.le_of_ble_eq_true rfl) (Nat.le_of_ble_eq_true rfl) dX4_keep_103
  · exact z_vret hx hb hret hlocks hS (by have hc : ¬ ((0 : Int) = 0 ∧ rd = 0) := (fun q => c_1 q.2); rw [kL, if_neg hc, kH, if_neg hc, kE, if_neg hc]; exact ⟨rfl, hT⟩) (Nat.le_of_ble_eq_true rfl) (Nat.le_of_ble_eq_true rfl) dX4_keep_7
theorem hn_X4_unlock : yX4_unlock.cls ≠ "java/lang/invoke/MethodHandle" ∧ yX4_unlock.cls ≠ "java/lang/invoke/VarHandle" ∧ (parseMethodDescriptor yX4_unlock.desc).map (fun d => d.parameters.length) = some 2 := by decide +kernel
theorem hd_X4_unlock : yX4_unlock.cls = "CheckoutDeskModel" ∧ yX4_unlock.cls ≠ "java/lang/invoke/MethodHandle" ∧ yX4_unlock.cls ≠ "java/lang/invoke/VarHandle" ∧ (parseMethodDescriptor yX4_unlock.desc).map (fun d => d.parameters.length) = some 2 := ⟨rfl, hn_X4_unlock⟩
abbrev rm_X4_unlock : Room := { frames := 3, cells := 0, slots := 0, locals := 57 }
set_option maxHeartbeats 1000000 in
theorem tc_unlock (l : Launch) {G : zG} {t : zTau} {w kp lg hr : Int → Int} {ev rd th : Int} {H0 : Heap} (hT : zT G t w kp lg hr ev rd th H0) {d b : Int} (hd8 : 0 ≤ d ∧ d < 8) (hb3 : 0 ≤ b ∧ b < 3) : zM l yX4_unlock (ws_ yX4_unlock cX4_unlock 3 none) rm_X4_unlock G (zTw t H0) [.ref t.1, .int (iI d), .int (iI b)] H0 (fun r H1 => r = none ∧ zT G t (zup w (5 + 32 * d + 8 + 8 * b + 1) 0) kp lg hr ev rd th H1) (fun _ => False) := by
  refine z_enter (by decide +kernel) (Nat.le_of_ble_eq_true rfl) ?_
  intro p e s m args below meth c ls hx hb hret hml hown hts hlocks htab hnm hK hH hl
  subst hH
  have hAn : ∀ q, s.heap.size ≤ q → zTw t s.heap q := fun _ h => Or.inr h
  have hTA : ∀ q, zTA t q → zTw t s.heap q := fun _ h => Or.inl h
  have hS : va_S (zTw t s.heap) s.heap s.heap [] := va_S.rf
  have hl : lv_has ls 3 [(0, .ref t.1), (1, .int (iI d)), (2, .int (iI b))] := hl
  have hrd := hT.2.2.2.2.2.2.2.2.2.2.2
  have hev := hT.2.2.2.2.2.2.2.2.2.2.1
  have hwR := hT.2.2.2.2.2.2.1
  refine lv_aload_n hx hb dX4_unlock_0 rfl (lv_at hl 0 rfl) ?_
  refine z_get (k := 0) hx hb hts in_X4 hown hK hT.1 rfl (by decide) q2331 rfl (v := .ref t.2.1) rfl dX4_unlock_1 ?_
  refine lv_iload_n hx hb dX4_unlock_4 rfl (lv_at hl 1 rfl) ?_
  refine lv_iload_n hx hb dX4_unlock_5 rfl (lv_at hl 2 rfl) ?_
  refine z_callp (vx_runS (As := [.int (iI d), .int (iI b)]) (rest := [.ref t.2.1]) ⟨hx, hb, hml, hown, hts⟩ (tc_place l (d := d) (b := b)) (va_cwS 2 hts (lw_S q2398 q2399 q49 q2400) rfl rfl rfl hn_X4_place ⟨Nat.le_of_ble_eq_true rfl, Nat.le_of_ble_eq_true rfl⟩) (z_preS hK hS (zN_le hAn hS)) rfl rfl hl.1 rfl (lv_room (Nat.le_of_ble_eq_true rfl)) dX4_unlock_6 ⟨Nat.le_of_ble_eq_true rfl, Nat.le_of_ble_eq_true rfl⟩) hS (zN_le hAn hS) rfl rfl (fun locs hS => ?_)
  refine lv_iconst (v := iI 1) hx hb dX4_unlock_9 rfl ?_
  refine z_iadd (x := 5 + 32 * d + 8 + 8 * b) (y := 1) hx hb dX4_unlock_10 ?_
  refine lv_iconst (v := iI 0) hx hb dX4_unlock_11 rfl ?_
  refine zt_st (i := 5 + 32 * d + 8 + 8 * b + 1) (x := 0) hx hb hK hT hTA hS ⟨by omega, by omega⟩ (by decide) dX4_unlock_12 (fun H locs hT hS => ?_)
  exact z_vret hx hb hret hlocks hS ⟨rfl, hT⟩ (Nat.le_of_ble_eq_true rfl) (Nat.le_of_ble_eq_true rfl) dX4_unlock_13
/-- n values copied from one place of the row to another -/
def tw_cp (w : Int → Int) (at_ vals : Int) : Nat → Int → Int
  | 0 => w
  | n + 1 => zup (tw_cp w at_ vals n) (at_ + 4 + n) (tw_cp w at_ vals n (vals + n))
theorem tw_cp_n {w : Int → Int} {at_ vals j : Int} : ∀ n : Nat, (j < at_ + 4 ∨ at_ + 4 + n ≤ j) → tw_cp w at_ vals n j = w j
  | 0, _ => rfl
  | n + 1, h => by
    unfold tw_cp
    rw [zup_n (by omega)]
    exact tw_cp_n n (by omega)
def tw_mk1 (w : Int → Int) (d b mj mn : Int) : Int → Int := zup (zup (zup (zup w (261 + 9 * w 3) d) (261 + 9 * w 3 + 1) b) (261 + 9 * w 3 + 2) mj) (261 + 9 * w 3 + 3) mn
def tw_make (w : Int → Int) (d b mj mn vals : Int) : Int → Int := zup (zup (tw_cp (tw_mk1 w d b mj mn) (261 + 9 * w 3) vals 4) (261 + 9 * w 3 + 8) 1) 3 (w 3 + 1)
theorem tw_mk1_n {w : Int → Int} {d b mj mn j : Int} (h : j < 261 + 9 * w 3 ∨ 261 + 9 * w 3 + 4 ≤ j) : tw_mk1 w d b mj mn j = w j := by
  unfold tw_mk1
  rw [zup_n (by omega), zup_n (by omega), zup_n (by omega), zup_n (by omega)]
theorem hn_X4_make : yX4_make.cls ≠ "java/lang/invoke/MethodHandle" ∧ yX4_make.cls ≠ "java/lang/invoke/VarHandle" ∧ (parseMethodDescriptor yX4_make.desc).map (fun d => d.parameters.length) = some 5 := by decide +kernel
theorem hd_X4_make : yX4_make.cls = "CheckoutDeskModel" ∧ yX4_make.cls ≠ "java/lang/invoke/MethodHandle" ∧ yX4_make.cls ≠ "java/lang/invoke/VarHandle" ∧ (parseMethodDescriptor yX4_make.desc).map (fun d => d.parameters.length) = some 5 := ⟨rfl, hn_X4_make⟩
abbrev rm_X4_make : Room := { frames := 2, cells := 0, slots := 0, locals := 36 }
set_option maxHeartbeats 1000000 in
theorem tc_make (l : Launch) {G : zG} {t : zTau} {w kp lg hr : Int → Int} {ev rd th : Int} {H0 : Heap} (hT : zT G t w kp lg hr ev rd th H0) {d b mj mn vals : Int} (hd : inR d) (hb : inR b) (hmj : inR mj) (hmn : inR mn) (hv59 : 0 ≤ w 3 ∧ w 3 < 60) (hvals : 0 ≤ vals ∧ vals ≤ 869) : zM l yX4_make (ws_ yX4_make cX4_make 8 (some .int)) rm_X4_make G (zTw t H0) [.ref t.1, .int (iI d), .int (iI b), .int (iI mj), .int (iI mn), .int (iI vals)] H0 (fun r H1 => r = some (.int (iI (w 3))) ∧ zT G t (tw_make w d b mj mn vals) kp lg hr ev rd th H1) (fun _ => False) := by
  refine z_enter (by decide +kernel) (Nat.le_of_ble_eq_true rfl) ?_
  intro p e s m args below meth c ls hx hb hret hml hown hts hlocks htab hnm hK hH hl
  subst hH
  have hAn : ∀ q, s.heap.size ≤ q → zTw t s.heap q := fun _ h => Or.inr h
  have hTA : ∀ q, zTA t q → zTw t s.heap q := fun _ h => Or.inl h
  have hS : va_S (zTw t s.heap) s.heap s.heap [] := va_S.rf
  have hl : lv_has ls 8 [(0, .ref t.1), (1, .int (iI d)), (2, .int (iI b)), (3, .int (iI mj)), (4, .int (iI mn)), (5, .int (iI vals))] := hl
  have hrd := hT.2.2.2.2.2.2.2.2.2.2.2
  have hev := hT.2.2.2.2.2.2.2.2.2.2.1
  have hwR := hT.2.2.2.2.2.2.1
  refine lv_aload_n hx hb dX4_make_0 rfl (lv_at hl 0 rfl) ?_
  refine z_get (k := 0) hx hb hts in_X4 hown hK hT.1 rfl (by decide) q2331 rfl (v := .ref t.2.1) rfl dX4_make_1 ?_
  refine lv_iconst (v := iI 3) hx hb dX4_make_4 rfl ?_
  refine z_ildZ (i := 3) (f := w) hx hb hK hT.2.1 ⟨by omega, by omega⟩ (by decide) dX4_make_5 ?_
  have r_1 : inR (w 3) := hT.2.2.2.2.2.2.1 3
  refine z_callp (vx_runS (As := [.int (iI (w 3))]) (rest := []) ⟨hx, hb, hml, hown, hts⟩ (tc_ver l (v := w 3)) (va_cwS 1 hts (lw_S q2405 q2406 q49 q2407) rfl rfl rfl hn_X4_ver ⟨Nat.le_of_ble_eq_true rfl, Nat.le_of_ble_eq_true rfl⟩) (z_preS hK hS (zN_le hAn hS)) rfl rfl hl.1 rfl (lv_room (Nat.le_of_ble_eq_true rfl)) dX4_make_6 ⟨Nat.le_of_ble_eq_true rfl, Nat.le_of_ble_eq_true rfl⟩) hS (zN_le hAn hS) rfl rfl (fun locs hS => ?_)
  refine lv_istore (lv' := [(6, .int (iI (261 + 9 * w 3))), (0, .ref t.1), (1, .int (iI d)), (2, .int (iI b)), (3, .int (iI mj)), (4, .int (iI mn)), (5, .int (iI vals))]) hx hb dX4_make_9 hl (by decide) rfl (fun ls hl => ?_)
  refine lv_aload_n hx hb dX4_make_11 rfl (lv_at hl 1 rfl) ?_
  refine z_get (k := 0) hx hb hts in_X4 hown hK hT.1 rfl (by decide) q2331 rfl (v := .ref t.2.1) rfl dX4_make_12 ?_
  refine lv_iload hx hb dX4_make_15 (lv_at hl 0 rfl) ?_
  refine lv_iconst (v := iI 0) hx hb dX4_make_17 rfl ?_
  refine z_iadd0 hx hb dX4_make_18 ?_
  refine lv_iload_n hx hb dX4_make_19 rfl (lv_at hl 2 rfl) ?_
  refine zt_st (i := 261 + 9 * w 3) (x := d) hx hb hK hT hTA hS ⟨by omega, by omega⟩ (by first | assumption | exact ⟨by omega, by omega⟩) dX4_make_20 (fun H locs hT hS => ?_)
  refine lv_aload_n hx hb dX4_make_21 rfl (lv_at hl 1 rfl) ?_
  refine z_get (k := 0) hx hb hts in_X4 hown hK hT.1 rfl (by decide) q2331 rfl (v := .ref t.2.1) rfl dX4_make_22 ?_
  refine lv_iload hx hb dX4_make_25 (lv_at hl 0 rfl) ?_
  refine lv_iconst (v := iI 1) hx hb dX4_make_27 rfl ?_
  refine z_iadd (x := 261 + 9 * w 3) (y := 1) hx hb dX4_make_28 ?_
  refine lv_iload_n hx hb dX4_make_29 rfl (lv_at hl 3 rfl) ?_
  refine zt_st (i := 261 + 9 * w 3 + 1) (x := b) hx hb hK hT hTA hS ⟨by omega, by omega⟩ (by first | assumption | exact ⟨by omega, by omega⟩) dX4_make_30 (fun H locs hT hS => ?_)
  refine lv_aload_n hx hb dX4_make_31 rfl (lv_at hl 1 rfl) ?_
  refine z_get (k := 0) hx hb hts in_X4 hown hK hT.1 rfl (by decide) q2331 rfl (v := .ref t.2.1) rfl dX4_make_32 ?_
  refine lv_iload hx hb dX4_make_35 (lv_at hl 0 rfl) ?_
  refine lv_iconst (v := iI 2) hx hb dX4_make_37 rfl ?_
  refine z_iadd (x := 261 + 9 * w 3) (y := 2) hx hb dX4_make_38 ?_
  refine lv_iload_n hx hb dX4_make_39 rfl (lv_at hl 4 rfl) ?_
  refine zt_st (i := 261 + 9 * w 3 + 2) (x := mj) hx hb hK hT hTA hS ⟨by omega, by omega⟩ (by first | assumption | exact ⟨by omega, by omega⟩) dX4_make_40 (fun H locs hT hS => ?_)
  refine lv_aload_n hx hb dX4_make_41 rfl (lv_at hl 1 rfl) ?_
  refine z_get (k := 0) hx hb hts in_X4 hown hK hT.1 rfl (by decide) q2331 rfl (v := .ref t.2.1) rfl dX4_make_42 ?_
  refine lv_iload hx hb dX4_make_45 (lv_at hl 0 rfl) ?_
  refine lv_iconst (v := iI 3) hx hb dX4_make_47 rfl ?_
  refine z_iadd (x := 261 + 9 * w 3) (y := 3) hx hb dX4_make_48 ?_
  refine lv_iload hx hb dX4_make_49 (lv_at hl 5 rfl) ?_
  refine zt_st (i := 261 + 9 * w 3 + 3) (x := mn) hx hb hK hT hTA hS ⟨by omega, by omega⟩ (by first | assumption | exact ⟨by omega, by omega⟩) dX4_make_51 (fun H locs hT hS => ?_)
  refine lv_iconst (v := iI 0) hx hb dX4_make_52 rfl ?_
  refine lv_istore (lv' := [(7, .int (iI 0)), (6, .int (iI (261 + 9 * w 3))), (0, .ref t.1), (1, .int (iI d)), (2, .int (iI b)), (3, .int (iI mj)), (4, .int (iI mn)), (5, .int (iI vals))]) hx hb dX4_make_53 hl (by decide) rfl (fun ls hl => ?_)
  refine z_loopH (A := zTw t s.heap) (H0 := s.heap) (nL := 8) (hd := 55) (fun i_2 : Nat => [(7, .int (iI ((i_2 : Nat) : Int))), (6, .int (iI (261 + 9 * w 3))), (0, .ref t.1), (5, .int (iI vals))]) (fun (i_2 : Nat) (H : Heap) => (i_2 : Int) ≤ 4 ∧ zT G t (tw_cp (tw_mk1 w d b mj mn) (261 + 9 * w 3) vals i_2) kp lg hr ev rd th H) (fun _ => 0) (fun _ => 0) (fun i_2 : Nat => (4 : Int).toNat - i_2) (fun i_2 H locs hi_2 hS ih_3 ls hl => ?_) 0 _ _ ?_ hS ls (z_lvren (lv_sub hl [0, 1, 2, 7] rfl) (by rfl))
  · have hl : lv_has ls 8 [(7, .int (iI ((i_2 : Nat) : Int))), (6, .int (iI (261 + 9 * w 3))), (0, .ref t.1), (5, .int (iI vals))] := hl
    obtain ⟨hi_2, hT⟩ : (i_2 : Int) ≤ 4 ∧ zT G t (tw_cp (tw_mk1 w d b mj mn) (261 + 9 * w 3) vals i_2) kp lg hr ev rd th H := hi_2
    refine lv_iload hx hb dX4_make_55 (lv_at hl 0 rfl) ?_
    refine lv_iconst (v := iI 4) hx hb dX4_make_57 rfl ?_
    refine z_icmp_ge (x := ((i_2 : Nat) : Int)) (y := 4) (tgt := 89) hx hb (by first | assumption | exact ⟨by omega, by omega⟩) (by decide) dX4_make_58 (by decide) (fun c_4 => ?_) (fun c_4 => ?_)
    · refine lv_aload_n hx hb dX4_make_89 rfl (lv_at hl 2 rfl) ?_
      refine z_get (k := 0) hx hb hts in_X4 hown hK hT.1 rfl (by decide) q2331 rfl (v := .ref t.2.1) rfl dX4_make_90 ?_
      refine lv_iload hx hb dX4_make_93 (lv_at hl 1 rfl) ?_
      refine lv_bipush (v := iI 8) hx hb dX4_make_95 (by decide) ?_
      refine z_iadd (x := 261 + 9 * w 3) (y := 8) hx hb dX4_make_97 ?_
      refine lv_iconst (v := iI 1) hx hb dX4_make_98 rfl ?_
      refine zt_st (i := 261 + 9 * w 3 + 8) (x := 1) hx hb hK hT hTA hS ⟨by omega, by omega⟩ (by decide) dX4_make_99 (fun H locs hT hS => ?_)
      refine lv_aload_n hx hb dX4_make_100 rfl (lv_at hl 2 rfl) ?_
      refine z_get (k := 0) hx hb hts in_X4 hown hK hT.1 rfl (by decide) q2331 rfl (v := .ref t.2.1) rfl dX4_make_101 ?_
      refine lv_iconst (v := iI 3) hx hb dX4_make_104 rfl ?_
      refine lv_dup2_11 hx hb dX4_make_105 rfl rfl ?_
      refine z_ildZ (i := 3) (f := zup (tw_cp (tw_mk1 w d b mj mn) (261 + 9 * w 3) vals i_2) (261 + 9 * w 3 + 8) 1) hx hb hK hT.2.1 ⟨by omega, by omega⟩ (by decide) dX4_make_106 ?_
      refine z_top (x := (zup (tw_cp (tw_mk1 w d b mj mn) (261 + 9 * w 3) vals i_2) (261 + 9 * w 3 + 8) 1) 3) (y := w 3) (by rw [zup_n (by omega), tw_cp_n _ (by omega), tw_mk1_n (by omega)]) ?_
      refine lv_iconst (v := iI 1) hx hb dX4_make_107 rfl ?_
      refine z_iadd (x := w 3) (y := 1) hx hb dX4_make_108 ?_
      refine zt_st (i := 3) (x := w 3 + 1) hx hb hK hT hTA hS ⟨by omega, by omega⟩ (by first | assumption | exact ⟨by omega, by omega⟩) dX4_make_109 (fun H locs hT hS => ?_)
      refine lv_aload_n hx hb dX4_make_110 rfl (lv_at hl 2 rfl) ?_
      refine z_get (k := 0) hx hb hts in_X4 hown hK hT.1 rfl (by decide) q2331 rfl (v := .ref t.2.1) rfl dX4_make_111 ?_
      refine lv_iconst (v := iI 3) hx hb dX4_make_114 rfl ?_
      refine z_ildZ (i := 3) (f := zup (zup (tw_cp (tw_mk1 w d b mj mn) (261 + 9 * w 3) vals i_2) (261 + 9 * w 3 + 8) 1) 3 (w 3 + 1)) hx hb hK hT.2.1 ⟨by omega, by omega⟩ (by decide) dX4_make_115 ?_
      refine z_top (x := (zup (zup (tw_cp (tw_mk1 w d b mj mn) (261 + 9 * w 3) vals i_2) (261 + 9 * w 3 + 8) 1) 3 (w 3 + 1)) 3) (y := w 3 + 1) (by rw [zup_s]) ?_
      refine lv_iconst (v := iI 1) hx hb dX4_make_116 rfl ?_
      refine z_isub (x := w 3 + 1) (y := 1) hx hb dX4_make_117 ?_
      exact z_iret hx hb hret rfl hlocks hS ⟨by rw [show w 3 + 1 - 1 = w 3 by omega], by unfold tw_make; rw [show (4 : Nat) = i_2 by omega]; exact hT⟩ (Nat.le_of_ble_eq_true rfl) (Nat.le_of_ble_eq_true rfl) dX4_make_118
    · refine lv_aload_n hx hb dX4_make_61 rfl (lv_at hl 2 rfl) ?_
      refine z_get (k := 0) hx hb hts in_X4 hown hK hT.1 rfl (by decide) q2331 rfl (v := .ref t.2.1) rfl dX4_make_62 ?_
      refine lv_iload hx hb dX4_make_65 (lv_at hl 1 rfl) ?_
      refine lv_iconst (v := iI 4) hx hb dX4_make_67 rfl ?_
      refine z_iadd (x := 261 + 9 * w 3) (y := 4) hx hb dX4_make_68 ?_
      refine lv_iload hx hb dX4_make_69 (lv_at hl 0 rfl) ?_
      refine z_iadd (x := 261 + 9 * w 3 + 4) (y := ((i_2 : Nat) : Int)) hx hb dX4_make_71 ?_
      refine lv_aload_n hx hb dX4_make_72 rfl (lv_at hl 2 rfl) ?_
      refine z_get (k := 0) hx hb hts in_X4 hown hK hT.1 rfl (by decide) q2331 rfl (v := .ref t.2.1) rfl dX4_make_73 ?_
      refine lv_iload hx hb dX4_make_76 (lv_at hl 3 rfl) ?_
      refine lv_iload hx hb dX4_make_78 (lv_at hl 0 rfl) ?_
      refine z_iadd (x := vals) (y := ((i_2 : Nat) : Int)) hx hb dX4_make_80 ?_
      refine z_ildZ (i := vals + ((i_2 : Nat) : Int)) (f := tw_cp (tw_mk1 w d b mj mn) (261 + 9 * w 3) vals i_2) hx hb hK hT.2.1 ⟨by omega, by omega⟩ (by decide) dX4_make_81 ?_
      have r_5 : inR ((tw_cp (tw_mk1 w d b mj mn) (261 + 9 * w 3) vals i_2) (vals + ((i_2 : Nat) : Int))) := hT.2.2.2.2.2.2.1 (vals + ((i_2 : Nat) : Int))
      refine zt_st (i := 261 + 9 * w 3 + 4 + ((i_2 : Nat) : Int)) (x := (tw_cp (tw_mk1 w d b mj mn) (261 + 9 * w 3) vals i_2) (vals + ((i_2 : Nat) : Int))) hx hb hK hT hTA hS ⟨by omega, by omega⟩ (by first | assumption | exact ⟨by omega, by omega⟩) dX4_make_82 (fun H locs hT hS => ?_)
      refine lv_iinc (v := iI (((i_2 : Nat) : Int) + 1)) (lv' := [(7, .int (iI (((i_2 : Nat) : Int) + 1))), (6, .int (iI (261 + 9 * w 3))), (0, .ref t.1), (5, .int (iI vals))]) hx hb dX4_make_83 hl (k := 0) rfl (iI_add _ _) (by decide) rfl (fun ls hl => ?_)
      refine lv_goto (tgt := 55) hx hb dX4_make_86 (by decide) ?_
      exact ih_3 (i_2 + 1) _ _ ⟨by omega, hT⟩ hS (by omega) ls (z_lvren (lv_sub hl [0, 1, 2, 3] rfl) (by first | rfl | simp))
  · exact ⟨by omega, hT⟩
def tw_link (w : Int → Int) (fr kd tg : Int) : Int → Int := zup (zup (zup (zup w (801 + 3 * w 4) fr) (801 + 3 * w 4 + 1) kd) (801 + 3 * w 4 + 2) tg) 4 (w 4 + 1)
theorem hn_X4_link : yX4_link.cls ≠ "java/lang/invoke/MethodHandle" ∧ yX4_link.cls ≠ "java/lang/invoke/VarHandle" ∧ (parseMethodDescriptor yX4_link.desc).map (fun d => d.parameters.length) = some 3 := by decide +kernel
theorem hd_X4_link : yX4_link.cls = "CheckoutDeskModel" ∧ yX4_link.cls ≠ "java/lang/invoke/MethodHandle" ∧ yX4_link.cls ≠ "java/lang/invoke/VarHandle" ∧ (parseMethodDescriptor yX4_link.desc).map (fun d => d.parameters.length) = some 3 := ⟨rfl, hn_X4_link⟩
abbrev rm_X4_link : Room := { frames := 1, cells := 0, slots := 0, locals := 16 }
set_option maxHeartbeats 1000000 in
theorem tc_link (l : Launch) {G : zG} {t : zTau} {w kp lg hr : Int → Int} {ev rd th : Int} {H0 : Heap} (hT : zT G t w kp lg hr ev rd th H0) {fr kd tg : Int} (hfr : inR fr) (hkd : inR kd) (htg : inR tg) (hl23 : 0 ≤ w 4 ∧ w 4 < 24) : zM l yX4_link (ws_ yX4_link cX4_link 5 (some .int)) rm_X4_link G (zTw t H0) [.ref t.1, .int (iI fr), .int (iI kd), .int (iI tg)] H0 (fun r H1 => r = some (.int (iI (w 4))) ∧ zT G t (tw_link w fr kd tg) kp lg hr ev rd th H1) (fun _ => False) := by
  refine z_enter (by decide +kernel) (Nat.le_of_ble_eq_true rfl) ?_
  intro p e s m args below meth c ls hx hb hret hml hown hts hlocks htab hnm hK hH hl
  subst hH
  have hAn : ∀ q, s.heap.size ≤ q → zTw t s.heap q := fun _ h => Or.inr h
  have hTA : ∀ q, zTA t q → zTw t s.heap q := fun _ h => Or.inl h
  have hS : va_S (zTw t s.heap) s.heap s.heap [] := va_S.rf
  have hl : lv_has ls 5 [(0, .ref t.1), (1, .int (iI fr)), (2, .int (iI kd)), (3, .int (iI tg))] := hl
  have hrd := hT.2.2.2.2.2.2.2.2.2.2.2
  have hev := hT.2.2.2.2.2.2.2.2.2.2.1
  have hwR := hT.2.2.2.2.2.2.1
  refine lv_sipush (v := iI 801) hx hb dX4_link_0 (by decide) ?_
  refine lv_iconst (v := iI 3) hx hb dX4_link_3 rfl ?_
  refine lv_aload_n hx hb dX4_link_4 rfl (lv_at hl 0 rfl) ?_
  refine z_get (k := 0) hx hb hts in_X4 hown hK hT.1 rfl (by decide) q2331 rfl (v := .ref t.2.1) rfl dX4_link_5 ?_
  refine lv_iconst (v := iI 4) hx hb dX4_link_8 rfl ?_
  refine z_ildZ (i := 4) (f := w) hx hb hK hT.2.1 ⟨by omega, by omega⟩ (by decide) dX4_link_9 ?_
  have r_1 : inR (w 4) := hT.2.2.2.2.2.2.1 4
  refine z_imul (x := 3) (y := w 4) hx hb dX4_link_10 ?_
  refine z_iadd (x := 801) (y := 3 * w 4) hx hb dX4_link_11 ?_
  refine lv_istore (lv' := [(4, .int (iI (801 + 3 * w 4))), (0, .ref t.1), (1, .int (iI fr)), (2, .int (iI kd)), (3, .int (iI tg))]) hx hb dX4_link_12 hl (by decide) rfl (fun ls hl => ?_)
  refine lv_aload_n hx hb dX4_link_14 rfl (lv_at hl 1 rfl) ?_
  refine z_get (k := 0) hx hb hts in_X4 hown hK hT.1 rfl (by decide) q2331 rfl (v := .ref t.2.1) rfl dX4_link_15 ?_
  refine lv_iload hx hb dX4_link_18 (lv_at hl 0 rfl) ?_
  refine lv_iconst (v := iI 0) hx hb dX4_link_20 rfl ?_
  refine z_iadd0 hx hb dX4_link_21 ?_
  refine lv_iload_n hx hb dX4_link_22 rfl (lv_at hl 2 rfl) ?_
  refine zt_st (i := 801 + 3 * w 4) (x := fr) hx hb hK hT hTA hS ⟨by omega, by omega⟩ (by first | assumption | exact ⟨by omega, by omega⟩) dX4_link_23 (fun H locs hT hS => ?_)
  refine lv_aload_n hx hb dX4_link_24 rfl (lv_at hl 1 rfl) ?_
  refine z_get (k := 0) hx hb hts in_X4 hown hK hT.1 rfl (by decide) q2331 rfl (v := .ref t.2.1) rfl dX4_link_25 ?_
  refine lv_iload hx hb dX4_link_28 (lv_at hl 0 rfl) ?_
  refine lv_iconst (v := iI 1) hx hb dX4_link_30 rfl ?_
  refine z_iadd (x := 801 + 3 * w 4) (y := 1) hx hb dX4_link_31 ?_
  refine lv_iload_n hx hb dX4_link_32 rfl (lv_at hl 3 rfl) ?_
  refine zt_st (i := 801 + 3 * w 4 + 1) (x := kd) hx hb hK hT hTA hS ⟨by omega, by omega⟩ (by first | assumption | exact ⟨by omega, by omega⟩) dX4_link_33 (fun H locs hT hS => ?_)
  refine lv_aload_n hx hb dX4_link_34 rfl (lv_at hl 1 rfl) ?_
  refine z_get (k := 0) hx hb hts in_X4 hown hK hT.1 rfl (by decide) q2331 rfl (v := .ref t.2.1) rfl dX4_link_35 ?_
  refine lv_iload hx hb dX4_link_38 (lv_at hl 0 rfl) ?_
  refine lv_iconst (v := iI 2) hx hb dX4_link_40 rfl ?_
  refine z_iadd (x := 801 + 3 * w 4) (y := 2) hx hb dX4_link_41 ?_
  refine lv_iload_n hx hb dX4_link_42 rfl (lv_at hl 4 rfl) ?_
  refine zt_st (i := 801 + 3 * w 4 + 2) (x := tg) hx hb hK hT hTA hS ⟨by omega, by omega⟩ (by first | assumption | exact ⟨by omega, by omega⟩) dX4_link_43 (fun H locs hT hS => ?_)
  refine lv_aload_n hx hb dX4_link_44 rfl (lv_at hl 1 rfl) ?_
  refine z_get (k := 0) hx hb hts in_X4 hown hK hT.1 rfl (by decide) q2331 rfl (v := .ref t.2.1) rfl dX4_link_45 ?_
  refine lv_iconst (v := iI 4) hx hb dX4_link_48 rfl ?_
  refine lv_dup2_11 hx hb dX4_link_49 rfl rfl ?_
  refine z_ildZ (i := 4) (f := zup (zup (zup w (801 + 3 * w 4) fr) (801 + 3 * w 4 + 1) kd) (801 + 3 * w 4 + 2) tg) hx hb hK hT.2.1 ⟨by omega, by omega⟩ (by decide) dX4_link_50 ?_
  refine z_top (x := (zup (zup (zup w (801 + 3 * w 4) fr) (801 + 3 * w 4 + 1) kd) (801 + 3 * w 4 + 2) tg) 4) (y := w 4) (by rw [zup_n (by omega), zup_n (by omega), zup_n (by omega)]) ?_
  refine lv_iconst (v := iI 1) hx hb dX4_link_51 rfl ?_
  refine z_iadd (x := w 4) (y := 1) hx hb dX4_link_52 ?_
  refine zt_st (i := 4) (x := w 4 + 1) hx hb hK hT hTA hS ⟨by omega, by omega⟩ (by first | assumption | exact ⟨by omega, by omega⟩) dX4_link_53 (fun H locs hT hS => ?_)
  refine lv_aload_n hx hb dX4_link_54 rfl (lv_at hl 1 rfl) ?_
  refine z_get (k := 0) hx hb hts in_X4 hown hK hT.1 rfl (by decide) q2331 rfl (v := .ref t.2.1) rfl dX4_link_55 ?_
  refine lv_iconst (v := iI 4) hx hb dX4_link_58 rfl ?_
  refine z_ildZ (i := 4) (f := zup (zup (zup (zup w (801 + 3 * w 4) fr) (801 + 3 * w 4 + 1) kd) (801 + 3 * w 4 + 2) tg) 4 (w 4 + 1)) hx hb hK hT.2.1 ⟨by omega, by omega⟩ (by decide) dX4_link_59 ?_
  refine z_top (x := (zup (zup (zup (zup w (801 + 3 * w 4) fr) (801 + 3 * w 4 + 1) kd) (801 + 3 * w 4 + 2) tg) 4 (w 4 + 1)) 4) (y := w 4 + 1) (by rw [zup_s]) ?_
  refine lv_iconst (v := iI 1) hx hb dX4_link_60 rfl ?_
  refine z_isub (x := w 4 + 1) (y := 1) hx hb dX4_link_61 ?_
  exact z_iret hx hb hret rfl hlocks hS ⟨by rw [show w 4 + 1 - 1 = w 4 by omega], hT⟩ (Nat.le_of_ble_eq_true rfl) (Nat.le_of_ble_eq_true rfl) dX4_link_62
def tw_w0 : Int → Int := fun k => if k = 1 then 24 else 0
def tw_cl (w : Int → Int) (n : Nat) : Int → Int := fun k => if 0 ≤ k ∧ k < n then 0 else w k
theorem tw_cl_s (w : Int → Int) (n : Nat) : zup (tw_cl w n) n 0 = tw_cl w (n + 1) := by
  funext k
  unfold zup tw_cl
  by_cases h : k = n
  · rw [if_pos h, if_pos (by omega)]
  · rw [if_neg h]
    by_cases h2 : 0 ≤ k ∧ k < n
    · rw [if_pos h2, if_pos (by omega)]
    · rw [if_neg h2, if_neg (by omega)]
def tw_cpy (f g : Int → Int) (n : Nat) : Int → Int := fun k => if 0 ≤ k ∧ k < n then f k else g k
theorem tw_cpy_s (f g : Int → Int) (n : Nat) : zup (tw_cpy f g n) n (f n) = tw_cpy f g (n + 1) := by
  funext k
  unfold zup tw_cpy
  by_cases h : k = n
  · subst h
    rw [if_pos rfl, if_pos (by omega)]
  · rw [if_neg h]
    by_cases h2 : 0 ≤ k ∧ k < n
    · rw [if_pos h2, if_pos (by omega)]
    · rw [if_neg h2, if_neg (by omega)]
theorem tw_w0_R : ∀ k, inR (tw_w0 k) := by
  intro k
  unfold tw_w0
  split <;> decide
theorem tw_c0 (w : Int → Int) : tw_cl w 0 = w := by
  funext k
  unfold tw_cl
  rw [if_neg (by omega)]
theorem tw_y0 (f g : Int → Int) : tw_cpy f g 0 = g := by
  funext k
  unfold tw_cpy
  rw [if_neg (by omega)]
theorem hn_X4_clear : yX4_clear.cls ≠ "java/lang/invoke/MethodHandle" ∧ yX4_clear.cls ≠ "java/lang/invoke/VarHandle" ∧ (parseMethodDescriptor yX4_clear.desc).map (fun d => d.parameters.length) = some 0 := by decide +kernel
theorem hd_X4_clear : yX4_clear.cls = "CheckoutDeskModel" ∧ yX4_clear.cls ≠ "java/lang/invoke/MethodHandle" ∧ yX4_clear.cls ≠ "java/lang/invoke/VarHandle" ∧ (parseMethodDescriptor yX4_clear.desc).map (fun d => d.parameters.length) = some 0 := ⟨rfl, hn_X4_clear⟩
abbrev rm_X4_clear : Room := { frames := 1, cells := 0, slots := 0, locals := 16 }
set_option maxHeartbeats 1000000 in
theorem tc_clear (l : Launch) {G : zG} {t : zTau} {w kp lg hr : Int → Int} {ev rd th : Int} {H0 : Heap} (hT : zT G t w kp lg hr ev rd th H0)  : zM l yX4_clear (ws_ yX4_clear cX4_clear 2 none) rm_X4_clear G (zTw t H0) [.ref t.1] H0 (fun r H1 => r = none ∧ zT G t tw_w0 kp lg hr ev rd th H1) (fun _ => False) := by
  refine z_enter (by decide +kernel) (Nat.le_of_ble_eq_true rfl) ?_
  intro p e s m args below meth c ls hx hb hret hml hown hts hlocks htab hnm hK hH hl
  subst hH
  have hAn : ∀ q, s.heap.size ≤ q → zTw t s.heap q := fun _ h => Or.inr h
  have hTA : ∀ q, zTA t q → zTw t s.heap q := fun _ h => Or.inl h
  have hS : va_S (zTw t s.heap) s.heap s.heap [] := va_S.rf
  have hl : lv_has ls 2 [(0, .ref t.1)] := hl
  have hrd := hT.2.2.2.2.2.2.2.2.2.2.2
  have hev := hT.2.2.2.2.2.2.2.2.2.2.1
  have hwR := hT.2.2.2.2.2.2.1
  refine lv_iconst (v := iI 0) hx hb dX4_clear_0 rfl ?_
  refine lv_istore_n (lv' := [(1, .int (iI 0)), (0, .ref t.1)]) hx hb dX4_clear_1 rfl hl (by decide) rfl (fun ls hl => ?_)
  refine z_loopH (A := zTw t s.heap) (H0 := s.heap) (nL := 2) (hd := 2) (fun i_1 : Nat => [(1, .int (iI ((i_1 : Nat) : Int))), (0, .ref t.1)]) (fun (i_1 : Nat) (H : Heap) => (i_1 : Int) ≤ 873 ∧ zT G t (tw_cl w i_1) kp lg hr ev rd th H) (fun _ => 0) (fun _ => 0) (fun i_1 : Nat => (873 : Int).toNat - i_1) (fun i_1 H locs hi_1 hS ih_2 ls hl => ?_) 0 _ _ ?_ hS ls (z_lvren (lv_sub hl [0, 1] rfl) (by rfl))
  · have hl : lv_has ls 2 [(1, .int (iI ((i_1 : Nat) : Int))), (0, .ref t.1)] := hl
    obtain ⟨hi_1, hT⟩ : (i_1 : Int) ≤ 873 ∧ zT G t (tw_cl w i_1) kp lg hr ev rd th H := hi_1
    refine lv_iload_n hx hb dX4_clear_2 rfl (lv_at hl 0 rfl) ?_
    refine lv_sipush (v := iI 873) hx hb dX4_clear_3 (by decide) ?_
    refine z_icmp_ge (x := ((i_1 : Nat) : Int)) (y := 873) (tgt := 22) hx hb (by first | assumption | exact ⟨by omega, by omega⟩) (by decide) dX4_clear_6 (by decide) (fun c_3 => ?_) (fun c_3 => ?_)
    · refine lv_aload_n hx hb dX4_clear_22 rfl (lv_at hl 1 rfl) ?_
      refine z_get (k := 0) hx hb hts in_X4 hown hK hT.1 rfl (by decide) q2331 rfl (v := .ref t.2.1) rfl dX4_clear_23 ?_
      refine lv_iconst (v := iI 1) hx hb dX4_clear_26 rfl ?_
      refine lv_bipush (v := iI 24) hx hb dX4_clear_27 (by decide) ?_
      refine zt_st (i := 1) (x := 24) hx hb hK hT hTA hS ⟨by omega, by omega⟩ (by decide) dX4_clear_29 (fun H locs hT hS => ?_)
      exact z_vret hx hb hret hlocks hS ⟨rfl, hT.congrW (by intro k h0 h1; unfold zup tw_cl tw_w0; split; rfl; rw [if_pos (by omega)]) tw_w0_R⟩ (Nat.le_of_ble_eq_true rfl) (Nat.le_of_ble_eq_true rfl) dX4_clear_30
    · refine lv_aload_n hx hb dX4_clear_9 rfl (lv_at hl 1 rfl) ?_
      refine z_get (k := 0) hx hb hts in_X4 hown hK hT.1 rfl (by decide) q2331 rfl (v := .ref t.2.1) rfl dX4_clear_10 ?_
      refine lv_iload_n hx hb dX4_clear_13 rfl (lv_at hl 0 rfl) ?_
      refine lv_iconst (v := iI 0) hx hb dX4_clear_14 rfl ?_
      refine zt_st (i := ((i_1 : Nat) : Int)) (x := 0) hx hb hK hT hTA hS ⟨by omega, by omega⟩ (by decide) dX4_clear_15 (fun H locs hT hS => ?_)
      refine lv_iinc (v := iI (((i_1 : Nat) : Int) + 1)) (lv' := [(1, .int (iI (((i_1 : Nat) : Int) + 1))), (0, .ref t.1)]) hx hb dX4_clear_16 hl (k := 0) rfl (iI_add _ _) (by decide) rfl (fun ls hl => ?_)
      refine lv_goto (tgt := 2) hx hb dX4_clear_19 (by decide) ?_
      exact ih_2 (i_1 + 1) _ _ ⟨by omega, (by rw [← tw_cl_s]; exact hT)⟩ hS (by omega) ls (z_lvren (lv_sub hl [0, 1] rfl) (by first | rfl | simp))
  · exact ⟨by omega, (by rw [tw_c0]; exact hT)⟩
theorem hn_X4_back : yX4_back.cls ≠ "java/lang/invoke/MethodHandle" ∧ yX4_back.cls ≠ "java/lang/invoke/VarHandle" ∧ (parseMethodDescriptor yX4_back.desc).map (fun d => d.parameters.length) = some 0 := by decide +kernel
theorem hd_X4_back : yX4_back.cls = "CheckoutDeskModel" ∧ yX4_back.cls ≠ "java/lang/invoke/MethodHandle" ∧ yX4_back.cls ≠ "java/lang/invoke/VarHandle" ∧ (parseMethodDescriptor yX4_back.desc).map (fun d => d.parameters.length) = some 0 := ⟨rfl, hn_X4_back⟩
abbrev rm_X4_back : Room := { frames := 1, cells := 0, slots := 0, locals := 16 }
set_option maxHeartbeats 1000000 in
theorem tc_back (l : Launch) {G : zG} {t : zTau} {w kp lg hr : Int → Int} {ev rd th : Int} {H0 : Heap} (hT : zT G t w kp lg hr ev rd th H0)  : zM l yX4_back (ws_ yX4_back cX4_back 2 none) rm_X4_back G (zTw t H0) [.ref t.1] H0 (fun r H1 => r = none ∧ zT G t kp kp lg hr ev rd th H1) (fun _ => False) := by
  refine z_enter (by decide +kernel) (Nat.le_of_ble_eq_true rfl) ?_
  intro p e s m args below meth c ls hx hb hret hml hown hts hlocks htab hnm hK hH hl
  subst hH
  have hAn : ∀ q, s.heap.size ≤ q → zTw t s.heap q := fun _ h => Or.inr h
  have hTA : ∀ q, zTA t q → zTw t s.heap q := fun _ h => Or.inl h
  have hS : va_S (zTw t s.heap) s.heap s.heap [] := va_S.rf
  have hl : lv_has ls 2 [(0, .ref t.1)] := hl
  have hrd := hT.2.2.2.2.2.2.2.2.2.2.2
  have hev := hT.2.2.2.2.2.2.2.2.2.2.1
  have hwR := hT.2.2.2.2.2.2.1
  refine lv_iconst (v := iI 0) hx hb dX4_back_0 rfl ?_
  refine lv_istore_n (lv' := [(1, .int (iI 0)), (0, .ref t.1)]) hx hb dX4_back_1 rfl hl (by decide) rfl (fun ls hl => ?_)
  refine z_loopH (A := zTw t s.heap) (H0 := s.heap) (nL := 2) (hd := 2) (fun i_1 : Nat => [(1, .int (iI ((i_1 : Nat) : Int))), (0, .ref t.1)]) (fun (i_1 : Nat) (H : Heap) => (i_1 : Int) ≤ 873 ∧ zT G t (tw_cpy kp w i_1) kp lg hr ev rd th H) (fun _ => 0) (fun _ => 0) (fun i_1 : Nat => (873 : Int).toNat - i_1) (fun i_1 H locs hi_1 hS ih_2 ls hl => ?_) 0 _ _ ?_ hS ls (z_lvren (lv_sub hl [0, 1] rfl) (by rfl))
  · have hl : lv_has ls 2 [(1, .int (iI ((i_1 : Nat) : Int))), (0, .ref t.1)] := hl
    obtain ⟨hi_1, hT⟩ : (i_1 : Int) ≤ 873 ∧ zT G t (tw_cpy kp w i_1) kp lg hr ev rd th H := hi_1
    refine lv_iload_n hx hb dX4_back_2 rfl (lv_at hl 0 rfl) ?_
    refine lv_sipush (v := iI 873) hx hb dX4_back_3 (by decide) ?_
    refine z_icmp_ge (x := ((i_1 : Nat) : Int)) (y := 873) (tgt := 27) hx hb (by first | assumption | exact ⟨by omega, by omega⟩) (by decide) dX4_back_6 (by decide) (fun c_3 => ?_) (fun c_3 => ?_)
    · exact z_vret hx hb hret hlocks hS ⟨rfl, hT.congrW (by intro k h0 h1; unfold tw_cpy; rw [if_pos (by omega)]) hT.2.2.2.2.2.2.2.1⟩ (Nat.le_of_ble_eq_true rfl) (Nat.le_of_ble_eq_true rfl) dX4_back_27
    · refine lv_aload_n hx hb dX4_back_9 rfl (lv_at hl 1 rfl) ?_
      refine z_get (k := 0) hx hb hts in_X4 hown hK hT.1 rfl (by decide) q2331 rfl (v := .ref t.2.1) rfl dX4_back_10 ?_
      refine lv_iload_n hx hb dX4_back_13 rfl (lv_at hl 0 rfl) ?_
      refine lv_aload_n hx hb dX4_back_14 rfl (lv_at hl 1 rfl) ?_
      refine z_get (k := 1) hx hb hts in_X4 hown hK hT.1 rfl (by decide) q2332 rfl (v := .ref t.2.2.1) rfl dX4_back_15 ?_
      refine lv_iload_n hx hb dX4_back_18 rfl (lv_at hl 0 rfl) ?_
      refine z_ildZ (i := ((i_1 : Nat) : Int)) (f := kp) hx hb hK hT.2.2.1 ⟨by omega, by omega⟩ (by decide) dX4_back_19 ?_
      have r_4 : inR (kp ((i_1 : Nat) : Int)) := hT.2.2.2.2.2.2.2.1 ((i_1 : Nat) : Int)
      refine zt_st (i := ((i_1 : Nat) : Int)) (x := kp ((i_1 : Nat) : Int)) hx hb hK hT hTA hS ⟨by omega, by omega⟩ (by first | assumption | exact ⟨by omega, by omega⟩) dX4_back_20 (fun H locs hT hS => ?_)
      refine lv_iinc (v := iI (((i_1 : Nat) : Int) + 1)) (lv' := [(1, .int (iI (((i_1 : Nat) : Int) + 1))), (0, .ref t.1)]) hx hb dX4_back_21 hl (k := 0) rfl (iI_add _ _) (by decide) rfl (fun ls hl => ?_)
      refine lv_goto (tgt := 2) hx hb dX4_back_24 (by decide) ?_
      exact ih_2 (i_1 + 1) _ _ ⟨by omega, (by rw [← tw_cpy_s]; exact hT)⟩ hS (by omega) ls (z_lvren (lv_sub hl [0, 1] rfl) (by first | rfl | simp))
  · exact ⟨by omega, (by rw [tw_y0]; exact hT)⟩
theorem hn_X4_reset : yX4_reset.cls ≠ "java/lang/invoke/MethodHandle" ∧ yX4_reset.cls ≠ "java/lang/invoke/VarHandle" ∧ (parseMethodDescriptor yX4_reset.desc).map (fun d => d.parameters.length) = some 0 := by decide +kernel
theorem hd_X4_reset : yX4_reset.cls = "CheckoutDeskModel" ∧ yX4_reset.cls ≠ "java/lang/invoke/MethodHandle" ∧ yX4_reset.cls ≠ "java/lang/invoke/VarHandle" ∧ (parseMethodDescriptor yX4_reset.desc).map (fun d => d.parameters.length) = some 0 := ⟨rfl, hn_X4_reset⟩
abbrev rm_X4_reset : Room := { frames := 2, cells := 0, slots := 0, locals := 37 }
set_option maxHeartbeats 1000000 in
theorem tc_reset (l : Launch) {G : zG} {t : zTau} {w kp lg hr : Int → Int} {ev rd th : Int} {H0 : Heap} (hT : zT G t w kp lg hr ev rd th H0)  : zM l yX4_reset (ws_ yX4_reset cX4_reset 2 (some .int)) rm_X4_reset G (zTw t H0) [.ref t.1] H0 (fun r H1 => r = some (.int (iI ev)) ∧ zT G t tw_w0 kp lg hr 0 rd 0 H1) (fun _ => False) := by
  refine z_enter (by decide +kernel) (Nat.le_of_ble_eq_true rfl) ?_
  intro p e s m args below meth c ls hx hb hret hml hown hts hlocks htab hnm hK hH hl
  subst hH
  have hAn : ∀ q, s.heap.size ≤ q → zTw t s.heap q := fun _ h => Or.inr h
  have hTA : ∀ q, zTA t q → zTw t s.heap q := fun _ h => Or.inl h
  have hS : va_S (zTw t s.heap) s.heap s.heap [] := va_S.rf
  have hl : lv_has ls 2 [(0, .ref t.1)] := hl
  have hrd := hT.2.2.2.2.2.2.2.2.2.2.2
  have hev := hT.2.2.2.2.2.2.2.2.2.2.1
  have hwR := hT.2.2.2.2.2.2.1
  refine lv_aload_n hx hb dX4_reset_0 rfl (lv_at hl 0 rfl) ?_
  refine lv_iconst (v := iI 0) hx hb dX4_reset_1 rfl ?_
  refine zt_th (x := 0) hx hb hts hown hK q2337 hT hTA hS dX4_reset_2 (fun H locs hT hS => ?_)
  refine lv_aload_n hx hb dX4_reset_5 rfl (lv_at hl 0 rfl) ?_
  refine z_get (k := 4) hx hb hts in_X4 hown hK hT.1 rfl (by decide) q2335 rfl (v := .int (iI ev)) rfl dX4_reset_6 ?_
  refine lv_istore_n (lv' := [(1, .int (iI ev)), (0, .ref t.1)]) hx hb dX4_reset_9 rfl hl (by decide) rfl (fun ls hl => ?_)
  refine lv_aload_n hx hb dX4_reset_10 rfl (lv_at hl 1 rfl) ?_
  refine z_callmv (P := (fun H1 => zT G t tw_w0 kp lg hr ev rd 0 H1)) (vx_runV (As := []) (rest := []) ⟨hx, hb, hml, hown, hts⟩ (tc_clear l hT ) (cwV 0 hts (lw_V q2327 q2329 qs10 q49 q2330) rfl rfl rfl hd_X4_clear ⟨Nat.le_of_ble_eq_true rfl, Nat.le_of_ble_eq_true rfl⟩) (z_preV hK hS (zTw_le hTA hAn hS) hT.1 rfl rfl) rfl rfl hl.1 rfl (lv_room (Nat.le_of_ble_eq_true rfl)) dX4_reset_11 ⟨Nat.le_of_ble_eq_true rfl, Nat.le_of_ble_eq_true rfl⟩) hS (zTw_le hTA hAn hS) rfl rfl (fun H locs hT hS => ?_)
  refine lv_aload_n hx hb dX4_reset_14 rfl (lv_at hl 1 rfl) ?_
  refine lv_iconst (v := iI 0) hx hb dX4_reset_15 rfl ?_
  refine zt_ev (x := 0) hx hb hts hown hK q2335 hT hTA hS ⟨by omega, by omega⟩ dX4_reset_16 (fun H locs hT hS => ?_)
  refine lv_iload_n hx hb dX4_reset_19 rfl (lv_at hl 0 rfl) ?_
  exact z_iret hx hb hret rfl hlocks hS ⟨rfl, hT⟩ (Nat.le_of_ble_eq_true rfl) (Nat.le_of_ble_eq_true rfl) dX4_reset_20
