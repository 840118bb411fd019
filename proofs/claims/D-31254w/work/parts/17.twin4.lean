set_option maxRecDepth 100000
abbrev tClk (w : Int → Int) : Prop := (0 ≤ w 0 ∧ w 0 ≤ 9999) ∧ 1 ≤ w 1 ∧ w 1 ≤ 100
abbrev tDoc (w : Int → Int) : Prop := ∀ d : Int, 0 ≤ d → d < w 2 → (0 ≤ w (5 + 32 * d) ∧ w (5 + 32 * d) ≤ 5) ∧ ∀ p : Int, 0 ≤ p → p ≤ 5 → 0 ≤ w (5 + 32 * d + 2 + p) ∧ w (5 + 32 * d + 2 + p) ≤ 2
abbrev tBr (w : Int → Int) : Prop := ∀ d b : Int, 0 ≤ d → d < w 2 → 0 ≤ b → b < w (5 + 32 * d + 1) → (0 ≤ w (5 + 32 * d + 8 + 8 * b + 1) ∧ w (5 + 32 * d + 8 + 8 * b + 1) ≤ 6) ∧ (0 ≤ w (5 + 32 * d + 8 + 8 * b + 2) ∧ w (5 + 32 * d + 8 + 8 * b + 2) ≤ w 0) ∧ (0 < w (5 + 32 * d + 8 + 8 * b + 1) → 0 ≤ w (5 + 32 * d + 8 + 8 * b + 3) ∧ w (5 + 32 * d + 8 + 8 * b + 3) < w 3) ∧ (b = 0 → w (5 + 32 * d + 8 + 8 * b) = -1) ∧ (b ≠ 0 → 0 ≤ w (5 + 32 * d + 8 + 8 * b) ∧ w (5 + 32 * d + 8 + 8 * b) < w 3) ∧ ∀ j : Int, 0 ≤ j → j < 4 → 0 ≤ w (5 + 32 * d + 8 + 8 * b + 4 + j) ∧ w (5 + 32 * d + 8 + 8 * b + 4 + j) ≤ 9999
abbrev tVer (n : Int) (w : Int → Int) : Prop := ∀ v : Int, 0 ≤ v → v < w 3 → (0 ≤ w (261 + 9 * v + 1) ∧ w (261 + 9 * v + 1) < w (5 + 32 * w (261 + 9 * v) + 1)) ∧ (0 ≤ w (261 + 9 * v + 2) ∧ w (261 + 9 * v + 2) ≤ n) ∧ (0 ≤ w (261 + 9 * v + 3) ∧ w (261 + 9 * v + 3) ≤ n) ∧ (w (261 + 9 * v + 8) = 0 ∨ w (261 + 9 * v + 8) = 1) ∧ ∀ j : Int, 0 ≤ j → j < 4 → 0 ≤ w (261 + 9 * v + 4 + j) ∧ w (261 + 9 * v + 4 + j) ≤ 9999
abbrev tLnk (w : Int → Int) : Prop := ∀ k : Int, 0 ≤ k → k < w 4 → (0 ≤ w (801 + 3 * k) ∧ w (801 + 3 * k) < w 2) ∧ (0 ≤ w (801 + 3 * k + 1) ∧ w (801 + 3 * k + 1) ≤ 2) ∧ (w (801 + 3 * k + 1) = 0 → w (261 + 9 * w (801 + 3 * k + 2) + 8) = 1) ∧ (w (801 + 3 * k + 1) ≠ 0 → 0 ≤ w (801 + 3 * k + 2) ∧ w (801 + 3 * k + 2) < w 2)
abbrev tNew (w : Int → Int) : Prop := ∀ d b : Int, 0 ≤ d → d < w 2 → 0 ≤ b → b < w (5 + 32 * d + 1) → 0 ≤ tw_newestOf w d b
/-- branches that are not there yet -/
abbrev tFr (w : Int → Int) : Prop := ∀ d b : Int, 0 ≤ d → d < w 2 → w (5 + 32 * d + 1) ≤ b → b < 3 → w (5 + 32 * d + 8 + 8 * b + 1) = 0 ∧ w (5 + 32 * d + 8 + 8 * b + 2) = 0 ∧ ∀ j : Int, 0 ≤ j → j < 4 → w (5 + 32 * d + 8 + 8 * b + 4 + j) = 0
/-- what holds of the row between two acts; n: how many acts lie behind -/
def tInv (n : Int) (w : Int → Int) : Prop := tD w ∧ tV w ∧ tL w ∧ tB w ∧ tVd w ∧ tLk w ∧ tClk w ∧ tDoc w ∧ tBr w ∧ tVer n w ∧ tLnk w ∧ tNew w ∧ tFr w
theorem tw_are3 {w : Int → Int} {p d b : Int} (h : (tw_isPerson p && tw_isBranch w d b) = true) : (0 ≤ p ∧ p ≤ 5) ∧ (0 ≤ d ∧ d < w 2) ∧ 0 ≤ b ∧ b < w (5 + 32 * d + 1) := by
  obtain ⟨h1, h2⟩ := Bool.and_eq_true_iff.mp h
  exact ⟨tw_isPerson_iff.mp h1, tw_isBranch_iff.mp h2⟩
def tw_wr (x : Int) : Int := (iI x).toInt
theorem tw_wr_R (x : Int) : inR (tw_wr x) := ⟨Int32.le_toInt _, Int32.toInt_lt _⟩
theorem tw_wr_i (x : Int) : iI (tw_wr x) = iI x := Int32.ofInt_toInt _
theorem tw_wr_in {x : Int} (h : inR x) : tw_wr x = x := iI_toInt h
theorem z_topw {p : Program} {l : Launch} {e : Env} {R : Room} {s : State} {m : MethodId} {args : Array Value} {below : List Frame} {meth : Method} {c : Code} {H : Heap} {locs : List Loc} {cells slots : Nat} {Q : State → Prop} {pc : Nat} {ls : Array Slot} {rest : List Value} {x : Int} (k : W p l e R s m args below meth c H locs cells slots Q (F0 m pc ls (.int (iI (tw_wr x)) :: rest))) : W p l e R s m args below meth c H locs cells slots Q (F0 m pc ls (.int (iI x) :: rest)) := by
  rw [← tw_wr_i]
  exact k
/-- a run of the row set to 0 -/
def tw_zr (w : Int → Int) (base : Int) : Nat → Int → Int
  | 0 => w
  | n + 1 => zup (tw_zr w base n) (base + n) 0
theorem tw_zr_n {w : Int → Int} {base j : Int} : ∀ n : Nat, (j < base ∨ base + n ≤ j) → tw_zr w base n j = w j
  | 0, _ => rfl
  | n + 1, h => by
    unfold tw_zr
    rw [zup_n (by omega)]
    exact tw_zr_n n (by omega)
theorem tw_make_n {w : Int → Int} {d b mj mn vals j : Int} (h : j < 261 + 9 * w 3 ∨ 261 + 9 * w 3 + 9 ≤ j) (h3 : j ≠ 3) : tw_make w d b mj mn vals j = w j := by
  unfold tw_make
  rw [zup_n h3, zup_n (by omega), tw_cp_n _ (by omega), tw_mk1_n (by omega)]
theorem tw_make_3 {w : Int → Int} {d b mj mn vals : Int} : tw_make w d b mj mn vals 3 = w 3 + 1 := zup_s _ _ _
theorem tw_left_R {w : Int → Int} {d b : Int} (h : inR (w (5 + 32 * d + 8 + 8 * b + 2) + w 1 - w 0)) : inR (tw_left w d b) := by unfold tw_left tw_max; split; decide; split; exact h; decide
def tC_pass (w : Int → Int) (a1 : Int) : Int := tw_ok3 (tw_lies a1 1 100) (!(decide (9999 < tw_wr (w 0 + a1)))) true
def tW_pass (w : Int → Int) (a1 : Int) : Int → Int := zup w 0 (w 0 + a1)
def tA_pass (w : Int → Int) (a1 : Int) : Int := (zup w 0 (w 0 + a1)) 0
theorem hn_X4_pass : yX4_pass.cls ≠ "java/lang/invoke/MethodHandle" ∧ yX4_pass.cls ≠ "java/lang/invoke/VarHandle" ∧ (parseMethodDescriptor yX4_pass.desc).map (fun d => d.parameters.length) = some 1 := by decide +kernel
theorem hd_X4_pass : yX4_pass.cls = "CheckoutDeskModel" ∧ yX4_pass.cls ≠ "java/lang/invoke/MethodHandle" ∧ yX4_pass.cls ≠ "java/lang/invoke/VarHandle" ∧ (parseMethodDescriptor yX4_pass.desc).map (fun d => d.parameters.length) = some 1 := ⟨rfl, hn_X4_pass⟩
abbrev rm_X4_pass : Room := { frames := 3, cells := 0, slots := 0, locals := 61 }
set_option maxHeartbeats 1000000 in
theorem tc_pass (l : Launch) {G : zG} {t : zTau} {w kp lg hr : Int → Int} {ev rd th : Int} {H0 : Heap} (hT : zT G t w kp lg hr ev rd th H0) {a1 : Int} (ha1 : inR a1) {n_ : Int} (hI : tInv n_ w) (hn_ : n_ < 2000) (hev2 : rd = 0 → ev < 2000) : zM l yX4_pass (ws_ yX4_pass cX4_pass 2 (some .int)) rm_X4_pass G (zTw t H0) [.ref t.1, .int (iI a1)] H0 (fun r H1 => r = some (.int (iI (kA (tC_pass w a1) (tA_pass w a1)))) ∧ zT G t (kW (tC_pass w a1) w (tW_pass w a1)) kp (kL rd (tC_pass w a1) ev lg 0 a1 0 0 0 0) (kH rd (tC_pass w a1) ev hr (tW_pass w a1 0)) (kE rd (tC_pass w a1) ev) rd (tC_pass w a1) H1) (fun _ => False) := by
  refine z_enter (by decide +kernel) (Nat.le_of_ble_eq_true rfl) ?_
  intro p e s m args below meth c ls hx hb hret hml hown hts hlocks htab hnm hK hH hl
  subst hH
  have hAn : ∀ q, s.heap.size ≤ q → zTw t s.heap q := fun _ h => Or.inr h
  have hTA : ∀ q, zTA t q → zTw t s.heap q := fun _ h => Or.inl h
  have hS : va_S (zTw t s.heap) s.heap s.heap [] := va_S.rf
  have hl : lv_has ls 2 [(0, .ref t.1), (1, .int (iI a1))] := hl
  have hrd := hT.2.2.2.2.2.2.2.2.2.2.2
  have hev := hT.2.2.2.2.2.2.2.2.2.2.1
  have hwR := hT.2.2.2.2.2.2.1
  obtain ⟨hD, hV, hL, hB, hVd, hLk, hClk, hDoc, hBr, hVer, hLnk, hNew, hFr⟩ := hI
  refine lv_aload_n hx hb dX4_pass_0 rfl (lv_at hl 0 rfl) ?_
  refine lv_iload_n hx hb dX4_pass_1 rfl (lv_at hl 1 rfl) ?_
  refine lv_iconst (v := iI 1) hx hb dX4_pass_2 rfl ?_
  refine lv_bipush (v := iI 100) hx hb dX4_pass_3 (by decide) ?_
  refine z_callp (vx_runS (As := [.int (iI a1), .int (iI 1), .int (iI 100)]) (rest := [.ref t.1]) ⟨hx, hb, hml, hown, hts⟩ (tc_lies l (v := a1) (low := 1) (high := 100) (by first | with_reducible assumption | omega | exact ⟨by omega, by omega⟩ | omega) (by first | with_reducible assumption | omega | exact ⟨by omega, by omega⟩ | omega) (by first | with_reducible assumption | omega | exact ⟨by omega, by omega⟩ | omega)) (va_cwS 3 hts (lw_S q2365 q2366 q49 q2367) rfl rfl rfl hn_X4_lies ⟨Nat.le_of_ble_eq_true rfl, Nat.le_of_ble_eq_true rfl⟩) (z_preS hK hS (zN_le hAn hS)) rfl rfl hl.1 rfl (lv_room (Nat.le_of_ble_eq_true rfl)) dX4_pass_5 ⟨Nat.le_of_ble_eq_true rfl, Nat.le_of_ble_eq_true rfl⟩) hS (zN_le hAn hS) rfl rfl (fun locs hS => ?_)
  refine lv_aload_n hx hb dX4_pass_8 rfl (lv_at hl 0 rfl) ?_
  refine z_get (k := 0) hx hb hts in_X4 hown hK hT.1 rfl (by decide) q2331 rfl (v := .ref t.2.1) rfl dX4_pass_9 ?_
  refine lv_iconst (v := iI 0) hx hb dX4_pass_12 rfl ?_
  refine z_ildZ (i := 0) (f := w) hx hb hK hT.2.1 ⟨by omega, by omega⟩ (by decide) dX4_pass_13 ?_
  have r_1 : inR (w 0) := hT.2.2.2.2.2.2.1 0
  refine lv_iload_n hx hb dX4_pass_14 rfl (lv_at hl 1 rfl) ?_
  refine z_iadd (x := w 0) (y := a1) hx hb dX4_pass_15 ?_
  refine z_topw ?_
  refine lv_sipush (v := iI 9999) hx hb dX4_pass_16 (by decide) ?_
  refine z_join (pc2 := 27) (nL := 2) (lv := [(0, .ref t.1), (1, .int (iI a1))]) (st2 := [.int (iI (bI (!(decide (9999 < tw_wr (w 0 + a1)))))), .int (iI (bI (tw_lies a1 1 100))), .ref t.1]) hS (fun J_2 => ?_) (fun locs ls hS hl => ?_)
  · refine z_icmp_gt (x := tw_wr (w 0 + a1)) (y := 9999) (tgt := 26) hx hb (tw_wr_R _) (by decide) dX4_pass_19 (by decide) (fun c_3 => ?_) (fun c_3 => ?_)
    · refine lv_iconst (v := iI 0) hx hb dX4_pass_26 rfl ?_
      refine z_top (x := 0) (y := bI (!(decide (9999 < tw_wr (w 0 + a1))))) (by simp [bI, c_3]) ?_
      exact J_2 _ ls hS (lv_sub hl [0, 1] rfl)
    · refine lv_iconst (v := iI 1) hx hb dX4_pass_22 rfl ?_
      refine lv_goto (tgt := 27) hx hb dX4_pass_23 (by decide) ?_
      refine z_top (x := 1) (y := bI (!(decide (9999 < tw_wr (w 0 + a1))))) (by simp [bI, c_3]) ?_
      exact J_2 _ ls hS (lv_sub hl [0, 1] rfl)
  · refine z_callm (v := .int (iI (bI ((tw_lies a1 1 100) && (!(decide (9999 < tw_wr (w 0 + a1)))))))) (P := (fun H1 => zT G t w kp lg hr ev rd (tw_ok3 (tw_lies a1 1 100) (!(decide (9999 < tw_wr (w 0 + a1)))) true) H1)) (vx_runV (As := [.int (iI (bI (tw_lies a1 1 100))), .int (iI (bI (!(decide (9999 < tw_wr (w 0 + a1))))))]) (rest := []) ⟨hx, hb, hml, hown, hts⟩ (tc_ok l hT (ba := tw_lies a1 1 100) (bb := !(decide (9999 < tw_wr (w 0 + a1))))) (cwV 2 hts (lw_V q2368 q2370 qs11 q49 q2371) rfl rfl rfl hd_X4_ok ⟨Nat.le_of_ble_eq_true rfl, Nat.le_of_ble_eq_true rfl⟩) (z_preV hK hS (zTw_le hTA hAn hS) hT.1 rfl rfl) rfl rfl hl.1 rfl (lv_room (Nat.le_of_ble_eq_true rfl)) dX4_pass_27 ⟨Nat.le_of_ble_eq_true rfl, Nat.le_of_ble_eq_true rfl⟩) hS (zTw_le hTA hAn hS) rfl rfl (fun H locs hT hS => ?_)
    refine z_ifb_ne (b := (tw_lies a1 1 100) && (!(decide (9999 < tw_wr (w 0 + a1))))) (tgt := 35) hx hb dX4_pass_30 (by decide) (fun c_4 => ?_) (fun c_4 => ?_)
    · have hc := c_4
      simp only [Bool.and_eq_true, Bool.or_eq_true, decide_eq_true_eq, Bool.not_eq_eq_eq_not, Bool.not_true, decide_eq_false_iff_not, Bool.not_false] at hc
      obtain ⟨hc1, hc2⟩ := hc
      rw [tw_lies_iff] at hc1
      have hc3 := tw_wr_in (x := w 0 + a1) ⟨by omega, by omega⟩
      rw [hc3] at hc2
      refine lv_aload_n hx hb dX4_pass_35 rfl (lv_at hl 0 rfl) ?_
      refine z_get (k := 0) hx hb hts in_X4 hown hK hT.1 rfl (by decide) q2331 rfl (v := .ref t.2.1) rfl dX4_pass_36 ?_
      refine lv_iconst (v := iI 0) hx hb dX4_pass_39 rfl ?_
      refine lv_dup2_11 hx hb dX4_pass_40 rfl rfl ?_
      refine z_ildZ (i := 0) (f := w) hx hb hK hT.2.1 ⟨by omega, by omega⟩ (by decide) dX4_pass_41 ?_
      have r_5 : inR (w 0) := hT.2.2.2.2.2.2.1 0
      refine lv_iload_n hx hb dX4_pass_42 rfl (lv_at hl 1 rfl) ?_
      refine z_iadd (x := w 0) (y := a1) hx hb dX4_pass_43 ?_
      refine zt_st (i := 0) (x := w 0 + a1) hx hb hK hT hTA hS ⟨by omega, by omega⟩ (by first | with_reducible assumption | omega | exact ⟨by omega, by omega⟩) dX4_pass_44 (fun H locs hT hS => ?_)
      refine lv_aload_n hx hb dX4_pass_45 rfl (lv_at hl 0 rfl) ?_
      refine lv_iconst (v := iI 0) hx hb dX4_pass_46 rfl ?_
      refine lv_iload_n hx hb dX4_pass_47 rfl (lv_at hl 1 rfl) ?_
      refine lv_iconst (v := iI 0) hx hb dX4_pass_48 rfl ?_
      refine lv_iconst (v := iI 0) hx hb dX4_pass_49 rfl ?_
      refine lv_iconst (v := iI 0) hx hb dX4_pass_50 rfl ?_
      refine lv_iconst (v := iI 0) hx hb dX4_pass_51 rfl ?_
      refine z_callmv (P := (fun H1 => zT G t (zup w 0 (w 0 + a1)) kp (kL rd 0 ev lg 0 a1 0 0 0 0) (kH rd 0 ev hr ((zup w 0 (w 0 + a1)) 0)) (kE rd 0 ev) rd (tw_ok3 (tw_lies a1 1 100) (!(decide (9999 < tw_wr (w 0 + a1)))) true) H1)) (vx_runV (As := [.int (iI 0), .int (iI a1), .int (iI 0), .int (iI 0), .int (iI 0), .int (iI 0)]) (rest := []) ⟨hx, hb, hml, hown, hts⟩ (tc_keep l hT (k0 := 0) (a1 := a1) (a2 := 0) (a3 := 0) (a4 := 0) (a5 := 0) (by first | with_reducible assumption | omega | exact ⟨by omega, by omega⟩ | omega) (by first | with_reducible assumption | omega | exact ⟨by omega, by omega⟩ | omega) (by first | with_reducible assumption | omega | exact ⟨by omega, by omega⟩ | omega) (by first | with_reducible assumption | omega | exact ⟨by omega, by omega⟩ | omega) (by first | with_reducible assumption | omega | exact ⟨by omega, by omega⟩ | omega) (by first | with_reducible assumption | omega | exact ⟨by omega, by omega⟩ | omega) (by first | with_reducible assumption | omega | exact ⟨by omega, by omega⟩ | omega)) (cwV 6 hts (lw_V q2376 q2378 qs13 q49 q2379) rfl rfl rfl hd_X4_keep ⟨Nat.le_of_ble_eq_true rfl, Nat.le_of_ble_eq_true rfl⟩) (z_preV hK hS (zTw_le hTA hAn hS) hT.1 rfl rfl) rfl rfl hl.1 rfl (lv_room (Nat.le_of_ble_eq_true rfl)) dX4_pass_52 ⟨Nat.le_of_ble_eq_true rfl, Nat.le_of_ble_eq_true rfl⟩) hS (zTw_le hTA hAn hS) rfl rfl (fun H locs hT hS => ?_)
      refine lv_aload_n hx hb dX4_pass_55 rfl (lv_at hl 0 rfl) ?_
      refine z_get (k := 0) hx hb hts in_X4 hown hK hT.1 rfl (by decide) q2331 rfl (v := .ref t.2.1) rfl dX4_pass_56 ?_
      refine lv_iconst (v := iI 0) hx hb dX4_pass_59 rfl ?_
      refine z_ildZ (i := 0) (f := zup w 0 (w 0 + a1)) hx hb hK hT.2.1 ⟨by omega, by omega⟩ (by decide) dX4_pass_60 ?_
      have r_6 : inR ((zup w 0 (w 0 + a1)) 0) := hT.2.2.2.2.2.2.1 0
      exact z_iret hx hb hret rfl hlocks hS (by have hc : tC_pass w a1 = 0 := (by unfold tC_pass; simp only [tw_ok3_0]; first | assumption | (simp_all; done)); exact z_okend hc (by first | rfl | (simp [tW_pass, zup]; done)) hT) (Nat.le_of_ble_eq_true rfl) (Nat.le_of_ble_eq_true rfl) dX4_pass_61
    · refine lv_iconst (v := iI 0) hx hb dX4_pass_33 rfl ?_
      exact z_iret hx hb hret rfl hlocks hS (by have hc : ¬ tC_pass w a1 = 0 := (by unfold tC_pass; simp only [tw_ok3_0]; first | (simp_all; done) | assumption); exact z_noend hc hT) (Nat.le_of_ble_eq_true rfl) (Nat.le_of_ble_eq_true rfl) dX4_pass_34
def tC_setLapse (w : Int → Int) (a1 : Int) : Int := tw_ok3 (tw_lies a1 1 100) true true
def tW_setLapse (w : Int → Int) (a1 : Int) : Int → Int := zup w 1 a1
def tA_setLapse (w : Int → Int) (a1 : Int) : Int := w 1
theorem hn_X4_setLapse : yX4_setLapse.cls ≠ "java/lang/invoke/MethodHandle" ∧ yX4_setLapse.cls ≠ "java/lang/invoke/VarHandle" ∧ (parseMethodDescriptor yX4_setLapse.desc).map (fun d => d.parameters.length) = some 1 := by decide +kernel
theorem hd_X4_setLapse : yX4_setLapse.cls = "CheckoutDeskModel" ∧ yX4_setLapse.cls ≠ "java/lang/invoke/MethodHandle" ∧ yX4_setLapse.cls ≠ "java/lang/invoke/VarHandle" ∧ (parseMethodDescriptor yX4_setLapse.desc).map (fun d => d.parameters.length) = some 1 := ⟨rfl, hn_X4_setLapse⟩
abbrev rm_X4_setLapse : Room := { frames := 3, cells := 0, slots := 0, locals := 60 }
set_option maxHeartbeats 1000000 in
theorem tc_setLapse (l : Launch) {G : zG} {t : zTau} {w kp lg hr : Int → Int} {ev rd th : Int} {H0 : Heap} (hT : zT G t w kp lg hr ev rd th H0) {a1 : Int} (ha1 : inR a1) {n_ : Int} (hI : tInv n_ w) (hn_ : n_ < 2000) (hev2 : rd = 0 → ev < 2000) : zM l yX4_setLapse (ws_ yX4_setLapse cX4_setLapse 3 (some .int)) rm_X4_setLapse G (zTw t H0) [.ref t.1, .int (iI a1)] H0 (fun r H1 => r = some (.int (iI (kA (tC_setLapse w a1) (tA_setLapse w a1)))) ∧ zT G t (kW (tC_setLapse w a1) w (tW_setLapse w a1)) kp (kL rd (tC_setLapse w a1) ev lg 1 a1 0 0 0 0) (kH rd (tC_setLapse w a1) ev hr (tW_setLapse w a1 0)) (kE rd (tC_setLapse w a1) ev) rd (tC_setLapse w a1) H1) (fun _ => False) := by
  refine z_enter (by decide +kernel) (Nat.le_of_ble_eq_true rfl) ?_
  intro p e s m args below meth c ls hx hb hret hml hown hts hlocks htab hnm hK hH hl
  subst hH
  have hAn : ∀ q, s.heap.size ≤ q → zTw t s.heap q := fun _ h => Or.inr h
  have hTA : ∀ q, zTA t q → zTw t s.heap q := fun _ h => Or.inl h
  have hS : va_S (zTw t s.heap) s.heap s.heap [] := va_S.rf
  have hl : lv_has ls 3 [(0, .ref t.1), (1, .int (iI a1))] := hl
  have hrd := hT.2.2.2.2.2.2.2.2.2.2.2
  have hev := hT.2.2.2.2.2.2.2.2.2.2.1
  have hwR := hT.2.2.2.2.2.2.1
  obtain ⟨hD, hV, hL, hB, hVd, hLk, hClk, hDoc, hBr, hVer, hLnk, hNew, hFr⟩ := hI
  refine lv_aload_n hx hb dX4_setLapse_0 rfl (lv_at hl 0 rfl) ?_
  refine lv_iload_n hx hb dX4_setLapse_1 rfl (lv_at hl 1 rfl) ?_
  refine lv_iconst (v := iI 1) hx hb dX4_setLapse_2 rfl ?_
  refine lv_bipush (v := iI 100) hx hb dX4_setLapse_3 (by decide) ?_
  refine z_callp (vx_runS (As := [.int (iI a1), .int (iI 1), .int (iI 100)]) (rest := [.ref t.1]) ⟨hx, hb, hml, hown, hts⟩ (tc_lies l (v := a1) (low := 1) (high := 100) (by first | with_reducible assumption | omega | exact ⟨by omega, by omega⟩ | omega) (by first | with_reducible assumption | omega | exact ⟨by omega, by omega⟩ | omega) (by first | with_reducible assumption | omega | exact ⟨by omega, by omega⟩ | omega)) (va_cwS 3 hts (lw_S q2365 q2366 q49 q2367) rfl rfl rfl hn_X4_lies ⟨Nat.le_of_ble_eq_true rfl, Nat.le_of_ble_eq_true rfl⟩) (z_preS hK hS (zN_le hAn hS)) rfl rfl hl.1 rfl (lv_room (Nat.le_of_ble_eq_true rfl)) dX4_setLapse_5 ⟨Nat.le_of_ble_eq_true rfl, Nat.le_of_ble_eq_true rfl⟩) hS (zN_le hAn hS) rfl rfl (fun locs hS => ?_)
  refine z_callm (v := .int (iI (bI (tw_lies a1 1 100)))) (P := (fun H1 => zT G t w kp lg hr ev rd (tw_ok3 (tw_lies a1 1 100) true true) H1)) (vx_runV (As := [.int (iI (bI (tw_lies a1 1 100)))]) (rest := []) ⟨hx, hb, hml, hown, hts⟩ (tc_ok_3 l hT (ba := tw_lies a1 1 100)) (cwV 1 hts (lw_V q2384 q2386 qs14 q49 q2387) rfl rfl rfl hd_X4_ok_3 ⟨Nat.le_of_ble_eq_true rfl, Nat.le_of_ble_eq_true rfl⟩) (z_preV hK hS (zTw_le hTA hAn hS) hT.1 rfl rfl) rfl rfl hl.1 rfl (lv_room (Nat.le_of_ble_eq_true rfl)) dX4_setLapse_8 ⟨Nat.le_of_ble_eq_true rfl, Nat.le_of_ble_eq_true rfl⟩) hS (zTw_le hTA hAn hS) rfl rfl (fun H locs hT hS => ?_)
  refine z_ifb_ne (b := tw_lies a1 1 100) (tgt := 16) hx hb dX4_setLapse_11 (by decide) (fun c_1 => ?_) (fun c_1 => ?_)
  · have hc := tw_lies_iff.mp c_1
    refine lv_aload_n hx hb dX4_setLapse_16 rfl (lv_at hl 0 rfl) ?_
    refine z_get (k := 0) hx hb hts in_X4 hown hK hT.1 rfl (by decide) q2331 rfl (v := .ref t.2.1) rfl dX4_setLapse_17 ?_
    refine lv_iconst (v := iI 1) hx hb dX4_setLapse_20 rfl ?_
    refine z_ildZ (i := 1) (f := w) hx hb hK hT.2.1 ⟨by omega, by omega⟩ (by decide) dX4_setLapse_21 ?_
    have r_2 : inR (w 1) := hT.2.2.2.2.2.2.1 1
    refine lv_istore_n (lv' := [(2, .int (iI (w 1))), (0, .ref t.1), (1, .int (iI a1))]) hx hb dX4_setLapse_22 rfl hl (by decide) rfl (fun ls hl => ?_)
    refine lv_aload_n hx hb dX4_setLapse_23 rfl (lv_at hl 1 rfl) ?_
    refine z_get (k := 0) hx hb hts in_X4 hown hK hT.1 rfl (by decide) q2331 rfl (v := .ref t.2.1) rfl dX4_setLapse_24 ?_
    refine lv_iconst (v := iI 1) hx hb dX4_setLapse_27 rfl ?_
    refine lv_iload_n hx hb dX4_setLapse_28 rfl (lv_at hl 2 rfl) ?_
    refine zt_st (i := 1) (x := a1) hx hb hK hT hTA hS ⟨by omega, by omega⟩ (by first | with_reducible assumption | omega | exact ⟨by omega, by omega⟩) dX4_setLapse_29 (fun H locs hT hS => ?_)
    refine lv_aload_n hx hb dX4_setLapse_30 rfl (lv_at hl 1 rfl) ?_
    refine lv_iconst (v := iI 1) hx hb dX4_setLapse_31 rfl ?_
    refine lv_iload_n hx hb dX4_setLapse_32 rfl (lv_at hl 2 rfl) ?_
    refine lv_iconst (v := iI 0) hx hb dX4_setLapse_33 rfl ?_
    refine lv_iconst (v := iI 0) hx hb dX4_setLapse_34 rfl ?_
    refine lv_iconst (v := iI 0) hx hb dX4_setLapse_35 rfl ?_
    refine lv_iconst (v := iI 0) hx hb dX4_setLapse_36 rfl ?_
    refine z_callmv (P := (fun H1 => zT G t (zup w 1 a1) kp (kL rd 0 ev lg 1 a1 0 0 0 0) (kH rd 0 ev hr ((zup w 1 a1) 0)) (kE rd 0 ev) rd (tw_ok3 (tw_lies a1 1 100) true true) H1)) (vx_runV (As := [.int (iI 1), .int (iI a1), .int (iI 0), .int (iI 0), .int (iI 0), .int (iI 0)]) (rest := []) ⟨hx, hb, hml, hown, hts⟩ (tc_keep l hT (k0 := 1) (a1 := a1) (a2 := 0) (a3 := 0) (a4 := 0) (a5 := 0) (by first | with_reducible assumption | omega | exact ⟨by omega, by omega⟩ | omega) (by first | with_reducible assumption | omega | exact ⟨by omega, by omega⟩ | omega) (by first | with_reducible assumption | omega | exact ⟨by omega, by omega⟩ | omega) (by first | with_reducible assumption | omega | exact ⟨by omega, by omega⟩ | omega) (by first | with_reducible assumption | omega | exact ⟨by omega, by omega⟩ | omega) (by first | with_reducible assumption | omega | exact ⟨by omega, by omega⟩ | omega) (by first | with_reducible assumption | omega | exact ⟨by omega, by omega⟩ | omega)) (cwV 6 hts (lw_V q2376 q2378 qs13 q49 q2379) rfl rfl rfl hd_X4_keep ⟨Nat.le_of_ble_eq_true rfl, Nat.le_of_ble_eq_true rfl⟩) (z_preV hK hS (zTw_le hTA hAn hS) hT.1 rfl rfl) rfl rfl hl.1 rfl (lv_room (Nat.le_of_ble_eq_true rfl)) dX4_setLapse_37 ⟨Nat.le_of_ble_eq_true rfl, Nat.le_of_ble_eq_true rfl⟩) hS (zTw_le hTA hAn hS) rfl rfl (fun H locs hT hS => ?_)
    refine lv_iload_n hx hb dX4_setLapse_40 rfl (lv_at hl 0 rfl) ?_
    exact z_iret hx hb hret rfl hlocks hS (by have hc : tC_setLapse w a1 = 0 := (by unfold tC_setLapse; simp only [tw_ok3_0]; first | assumption | (simp_all; done)); exact z_okend hc (by first | rfl | (simp [tW_setLapse, zup]; done)) hT) (Nat.le_of_ble_eq_true rfl) (Nat.le_of_ble_eq_true rfl) dX4_setLapse_41
  · refine lv_iconst (v := iI 0) hx hb dX4_setLapse_14 rfl ?_
    exact z_iret hx hb hret rfl hlocks hS (by have hc : ¬ tC_setLapse w a1 = 0 := (by unfold tC_setLapse; simp only [tw_ok3_0]; first | (simp_all; done) | assumption); exact z_noend hc hT) (Nat.le_of_ble_eq_true rfl) (Nat.le_of_ble_eq_true rfl) dX4_setLapse_15
def tC_create (w : Int → Int) (a1 a2 : Int) : Int := tw_ok3 (tw_isPerson a1) (tw_lies a2 0 9999) ((decide (w 2 < 8)) && (decide (w 3 < 60)))
def tW_create (w : Int → Int) (a1 a2 : Int) : Int → Int := tw_make (zup (zup (zup (zup (zup (tw_zr w (5 + 32 * w 2) 32) (5 + 32 * w 2) a1) (5 + 32 * w 2 + 1) 1) (5 + 32 * w 2 + 8 + 8 * 0) (-1)) 2 (w 2 + 1)) (5 + 32 * w 2 + 8 + 8 * 0 + 4 + 3) a2) (w 2) 0 0 1 (5 + 32 * w 2 + 8 + 8 * 0 + 4)
def tA_create (w : Int → Int) (a1 a2 : Int) : Int := w 2
theorem hn_X4_create : yX4_create.cls ≠ "java/lang/invoke/MethodHandle" ∧ yX4_create.cls ≠ "java/lang/invoke/VarHandle" ∧ (parseMethodDescriptor yX4_create.desc).map (fun d => d.parameters.length) = some 2 := by decide +kernel
theorem hd_X4_create : yX4_create.cls = "CheckoutDeskModel" ∧ yX4_create.cls ≠ "java/lang/invoke/MethodHandle" ∧ yX4_create.cls ≠ "java/lang/invoke/VarHandle" ∧ (parseMethodDescriptor yX4_create.desc).map (fun d => d.parameters.length) = some 2 := ⟨rfl, hn_X4_create⟩
abbrev rm_X4_create : Room := { frames := 3, cells := 0, slots := 0, locals := 63 }
set_option maxHeartbeats 1000000 in
theorem tc_create (l : Launch) {G : zG} {t : zTau} {w kp lg hr : Int → Int} {ev rd th : Int} {H0 : Heap} (hT : zT G t w kp lg hr ev rd th H0) {a1 a2 : Int} (ha1 : inR a1) (ha2 : inR a2) {n_ : Int} (hI : tInv n_ w) (hn_ : n_ < 2000) (hev2 : rd = 0 → ev < 2000) : zM l yX4_create (ws_ yX4_create cX4_create 6 (some .int)) rm_X4_create G (zTw t H0) [.ref t.1, .int (iI a1), .int (iI a2)] H0 (fun r H1 => r = some (.int (iI (kA (tC_create w a1 a2) (tA_create w a1 a2)))) ∧ zT G t (kW (tC_create w a1 a2) w (tW_create w a1 a2)) kp (kL rd (tC_create w a1 a2) ev lg 2 a1 a2 0 0 0) (kH rd (tC_create w a1 a2) ev hr (tW_create w a1 a2 0)) (kE rd (tC_create w a1 a2) ev) rd (tC_create w a1 a2) H1) (fun _ => False) := by
  refine z_enter (by decide +kernel) (Nat.le_of_ble_eq_true rfl) ?_
  intro p e s m args below meth c ls hx hb hret hml hown hts hlocks htab hnm hK hH hl
  subst hH
  have hAn : ∀ q, s.heap.size ≤ q → zTw t s.heap q := fun _ h => Or.inr h
  have hTA : ∀ q, zTA t q → zTw t s.heap q := fun _ h => Or.inl h
  have hS : va_S (zTw t s.heap) s.heap s.heap [] := va_S.rf
  have hl : lv_has ls 6 [(0, .ref t.1), (1, .int (iI a1)), (2, .int (iI a2))] := hl
  have hrd := hT.2.2.2.2.2.2.2.2.2.2.2
  have hev := hT.2.2.2.2.2.2.2.2.2.2.1
  have hwR := hT.2.2.2.2.2.2.1
  obtain ⟨hD, hV, hL, hB, hVd, hLk, hClk, hDoc, hBr, hVer, hLnk, hNew, hFr⟩ := hI
  refine lv_aload_n hx hb dX4_create_0 rfl (lv_at hl 0 rfl) ?_
  refine lv_iload_n hx hb dX4_create_1 rfl (lv_at hl 1 rfl) ?_
  refine z_callp (vx_runS (As := [.int (iI a1)]) (rest := [.ref t.1]) ⟨hx, hb, hml, hown, hts⟩ (tc_isPerson l (p_ := a1) (by first | with_reducible assumption | omega | exact ⟨by omega, by omega⟩ | omega)) (va_cwS 1 hts (lw_S q2392 q2393 q49 q2394) rfl rfl rfl hn_X4_isPerson ⟨Nat.le_of_ble_eq_true rfl, Nat.le_of_ble_eq_true rfl⟩) (z_preS hK hS (zN_le hAn hS)) rfl rfl hl.1 rfl (lv_room (Nat.le_of_ble_eq_true rfl)) dX4_create_2 ⟨Nat.le_of_ble_eq_true rfl, Nat.le_of_ble_eq_true rfl⟩) hS (zN_le hAn hS) rfl rfl (fun locs hS => ?_)
  refine lv_iload_n hx hb dX4_create_5 rfl (lv_at hl 2 rfl) ?_
  refine lv_iconst (v := iI 0) hx hb dX4_create_6 rfl ?_
  refine lv_sipush (v := iI 9999) hx hb dX4_create_7 (by decide) ?_
  refine z_callp (vx_runS (As := [.int (iI a2), .int (iI 0), .int (iI 9999)]) (rest := [.int (iI (bI (tw_isPerson a1))), .ref t.1]) ⟨hx, hb, hml, hown, hts⟩ (tc_lies l (v := a2) (low := 0) (high := 9999) (by first | with_reducible assumption | omega | exact ⟨by omega, by omega⟩ | omega) (by first | with_reducible assumption | omega | exact ⟨by omega, by omega⟩ | omega) (by first | with_reducible assumption | omega | exact ⟨by omega, by omega⟩ | omega)) (va_cwS 3 hts (lw_S q2365 q2366 q49 q2367) rfl rfl rfl hn_X4_lies ⟨Nat.le_of_ble_eq_true rfl, Nat.le_of_ble_eq_true rfl⟩) (z_preS hK hS (zN_le hAn hS)) rfl rfl hl.1 rfl (lv_room (Nat.le_of_ble_eq_true rfl)) dX4_create_10 ⟨Nat.le_of_ble_eq_true rfl, Nat.le_of_ble_eq_true rfl⟩) hS (zN_le hAn hS) rfl rfl (fun locs hS => ?_)
  refine lv_aload_n hx hb dX4_create_13 rfl (lv_at hl 0 rfl) ?_
  refine z_get (k := 0) hx hb hts in_X4 hown hK hT.1 rfl (by decide) q2331 rfl (v := .ref t.2.1) rfl dX4_create_14 ?_
  refine lv_iconst (v := iI 2) hx hb dX4_create_17 rfl ?_
  refine z_ildZ (i := 2) (f := w) hx hb hK hT.2.1 ⟨by omega, by omega⟩ (by decide) dX4_create_18 ?_
  have r_1 : inR (w 2) := hT.2.2.2.2.2.2.1 2
  refine lv_bipush (v := iI 8) hx hb dX4_create_19 (by decide) ?_
  refine z_join (pc2 := 40) (nL := 6) (lv := [(0, .ref t.1), (1, .int (iI a1)), (2, .int (iI a2))]) (st2 := [.int (iI (bI ((decide (w 2 < 8)) && (decide (w 3 < 60))))), .int (iI (bI (tw_lies a2 0 9999))), .int (iI (bI (tw_isPerson a1))), .ref t.1]) hS (fun J_2 => ?_) (fun locs ls hS hl => ?_)
  · refine z_icmp_ge (x := w 2) (y := 8) (tgt := 39) hx hb (by first | with_reducible assumption | omega | exact ⟨by omega, by omega⟩) (by decide) dX4_create_21 (by decide) (fun c_3 => ?_) (fun c_3 => ?_)
    · refine lv_iconst (v := iI 0) hx hb dX4_create_39 rfl ?_
      refine z_top (x := 0) (y := bI ((decide (w 2 < 8)) && (decide (w 3 < 60)))) (by simp [bI, c_3]) ?_
      exact J_2 _ ls hS (lv_sub hl [0, 1, 2] rfl)
    · refine lv_aload_n hx hb dX4_create_24 rfl (lv_at hl 0 rfl) ?_
      refine z_get (k := 0) hx hb hts in_X4 hown hK hT.1 rfl (by decide) q2331 rfl (v := .ref t.2.1) rfl dX4_create_25 ?_
      refine lv_iconst (v := iI 3) hx hb dX4_create_28 rfl ?_
      refine z_ildZ (i := 3) (f := w) hx hb hK hT.2.1 ⟨by omega, by omega⟩ (by decide) dX4_create_29 ?_
      have r_4 : inR (w 3) := hT.2.2.2.2.2.2.1 3
      refine lv_bipush (v := iI 60) hx hb dX4_create_30 (by decide) ?_
      refine z_icmp_ge (x := w 3) (y := 60) (tgt := 39) hx hb (by first | with_reducible assumption | omega | exact ⟨by omega, by omega⟩) (by decide) dX4_create_32 (by decide) (fun c_5 => ?_) (fun c_5 => ?_)
      · refine lv_iconst (v := iI 0) hx hb dX4_create_39 rfl ?_
        refine z_top (x := 0) (y := bI ((decide (w 2 < 8)) && (decide (w 3 < 60)))) (by simp [bI, c_3, c_5]) ?_
        exact J_2 _ ls hS (lv_sub hl [0, 1, 2] rfl)
      · refine lv_iconst (v := iI 1) hx hb dX4_create_35 rfl ?_
        refine lv_goto (tgt := 40) hx hb dX4_create_36 (by decide) ?_
        refine z_top (x := 1) (y := bI ((decide (w 2 < 8)) && (decide (w 3 < 60)))) (by simp [bI, c_3, c_5]) ?_
        exact J_2 _ ls hS (lv_sub hl [0, 1, 2] rfl)
  · refine z_callm (v := .int (iI (bI ((tw_isPerson a1) && ((tw_lies a2 0 9999) && ((decide (w 2 < 8)) && (decide (w 3 < 60)))))))) (P := (fun H1 => zT G t w kp lg hr ev rd (tw_ok3 (tw_isPerson a1) (tw_lies a2 0 9999) ((decide (w 2 < 8)) && (decide (w 3 < 60)))) H1)) (vx_runV (As := [.int (iI (bI (tw_isPerson a1))), .int (iI (bI (tw_lies a2 0 9999))), .int (iI (bI ((decide (w 2 < 8)) && (decide (w 3 < 60)))))]) (rest := []) ⟨hx, hb, hml, hown, hts⟩ (tc_ok_2 l hT (ba := tw_isPerson a1) (bb := tw_lies a2 0 9999) (bc := (decide (w 2 < 8)) && (decide (w 3 < 60)))) (cwV 3 hts (lw_V q2372 q2374 qs12 q49 q2375) rfl rfl rfl hd_X4_ok_2 ⟨Nat.le_of_ble_eq_true rfl, Nat.le_of_ble_eq_true rfl⟩) (z_preV hK hS (zTw_le hTA hAn hS) hT.1 rfl rfl) rfl rfl hl.1 rfl (lv_room (Nat.le_of_ble_eq_true rfl)) dX4_create_40 ⟨Nat.le_of_ble_eq_true rfl, Nat.le_of_ble_eq_true rfl⟩) hS (zTw_le hTA hAn hS) rfl rfl (fun H locs hT hS => ?_)
    refine z_ifb_ne (b := (tw_isPerson a1) && ((tw_lies a2 0 9999) && ((decide (w 2 < 8)) && (decide (w 3 < 60))))) (tgt := 48) hx hb dX4_create_43 (by decide) (fun c_6 => ?_) (fun c_6 => ?_)
    · have hc := c_6
      simp only [Bool.and_eq_true, Bool.or_eq_true, decide_eq_true_eq, Bool.not_eq_eq_eq_not, Bool.not_true, decide_eq_false_iff_not, Bool.not_false] at hc
      obtain ⟨hc1, hc2, hc3⟩ := hc
      rw [tw_lies_iff] at hc2
      rw [tw_isPerson_iff] at hc1
      refine lv_aload_n hx hb dX4_create_48 rfl (lv_at hl 0 rfl) ?_
      refine z_get (k := 0) hx hb hts in_X4 hown hK hT.1 rfl (by decide) q2331 rfl (v := .ref t.2.1) rfl dX4_create_49 ?_
      refine lv_iconst (v := iI 2) hx hb dX4_create_52 rfl ?_
      refine z_ildZ (i := 2) (f := w) hx hb hK hT.2.1 ⟨by omega, by omega⟩ (by decide) dX4_create_53 ?_
      have r_7 : inR (w 2) := hT.2.2.2.2.2.2.1 2
      refine lv_istore_n (lv' := [(3, .int (iI (w 2))), (0, .ref t.1), (1, .int (iI a1)), (2, .int (iI a2))]) hx hb dX4_create_54 rfl hl (by decide) rfl (fun ls hl => ?_)
      refine lv_iconst (v := iI 0) hx hb dX4_create_55 rfl ?_
      refine lv_istore (lv' := [(4, .int (iI 0)), (3, .int (iI (w 2))), (0, .ref t.1), (1, .int (iI a1)), (2, .int (iI a2))]) hx hb dX4_create_56 hl (by decide) rfl (fun ls hl => ?_)
      refine z_loopH (A := zTw t s.heap) (H0 := s.heap) (nL := 6) (hd := 58) (fun i_8 : Nat => [(4, .int (iI ((i_8 : Nat) : Int))), (3, .int (iI (w 2))), (0, .ref t.1), (1, .int (iI a1)), (2, .int (iI a2))]) (fun (i_8 : Nat) (H : Heap) => (i_8 : Int) ≤ 32 ∧ zT G t (tw_zr w (5 + 32 * w 2) i_8) kp lg hr ev rd (tw_ok3 (tw_isPerson a1) (tw_lies a2 0 9999) ((decide (w 2 < 8)) && (decide (w 3 < 60)))) H) (fun _ => 0) (fun _ => 0) (fun i_8 : Nat => (32 : Int).toNat - i_8) (fun i_8 H locs hi_8 hS ih_9 ls hl => ?_) 0 _ _ ?_ hS ls (z_lvren (lv_sub hl [0, 1, 2, 3, 4] rfl) (by rfl))
      · have hl : lv_has ls 6 [(4, .int (iI ((i_8 : Nat) : Int))), (3, .int (iI (w 2))), (0, .ref t.1), (1, .int (iI a1)), (2, .int (iI a2))] := hl
        obtain ⟨hi_8, hT⟩ : (i_8 : Int) ≤ 32 ∧ zT G t (tw_zr w (5 + 32 * w 2) i_8) kp lg hr ev rd (tw_ok3 (tw_isPerson a1) (tw_lies a2 0 9999) ((decide (w 2 < 8)) && (decide (w 3 < 60)))) H := hi_8
        refine lv_iload hx hb dX4_create_58 (lv_at hl 0 rfl) ?_
        refine lv_bipush (v := iI 32) hx hb dX4_create_60 (by decide) ?_
        refine z_icmp_ge (x := ((i_8 : Nat) : Int)) (y := 32) (tgt := 84) hx hb (by first | with_reducible assumption | omega | exact ⟨by omega, by omega⟩) (by decide) dX4_create_62 (by decide) (fun c_10 => ?_) (fun c_10 => ?_)
        · obtain rfl : i_8 = 32 := by omega
          refine lv_aload_n hx hb dX4_create_84 rfl (lv_at hl 2 rfl) ?_
          refine z_get (k := 0) hx hb hts in_X4 hown hK hT.1 rfl (by decide) q2331 rfl (v := .ref t.2.1) rfl dX4_create_85 ?_
          refine lv_iload_n hx hb dX4_create_88 rfl (lv_at hl 1 rfl) ?_
          refine z_callp (vx_runS (As := [.int (iI (w 2))]) (rest := [.ref t.2.1]) ⟨hx, hb, hml, hown, hts⟩ (tc_doc l (d := w 2)) (va_cwS 1 hts (lw_S q2395 q2396 q49 q2397) rfl rfl rfl hn_X4_doc ⟨Nat.le_of_ble_eq_true rfl, Nat.le_of_ble_eq_true rfl⟩) (z_preS hK hS (zN_le hAn hS)) rfl rfl hl.1 rfl (lv_room (Nat.le_of_ble_eq_true rfl)) dX4_create_89 ⟨Nat.le_of_ble_eq_true rfl, Nat.le_of_ble_eq_true rfl⟩) hS (zN_le hAn hS) rfl rfl (fun locs hS => ?_)
          refine lv_iconst (v := iI 0) hx hb dX4_create_92 rfl ?_
          refine z_iadd0 hx hb dX4_create_93 ?_
          refine lv_iload_n hx hb dX4_create_94 rfl (lv_at hl 3 rfl) ?_
          refine zt_st (i := 5 + 32 * w 2) (x := a1) hx hb hK hT hTA hS ⟨by omega, by omega⟩ (by first | with_reducible assumption | omega | exact ⟨by omega, by omega⟩) dX4_create_95 (fun H locs hT hS => ?_)
          refine lv_aload_n hx hb dX4_create_96 rfl (lv_at hl 2 rfl) ?_
          refine z_get (k := 0) hx hb hts in_X4 hown hK hT.1 rfl (by decide) q2331 rfl (v := .ref t.2.1) rfl dX4_create_97 ?_
          refine lv_iload_n hx hb dX4_create_100 rfl (lv_at hl 1 rfl) ?_
          refine z_callp (vx_runS (As := [.int (iI (w 2))]) (rest := [.ref t.2.1]) ⟨hx, hb, hml, hown, hts⟩ (tc_doc l (d := w 2)) (va_cwS 1 hts (lw_S q2395 q2396 q49 q2397) rfl rfl rfl hn_X4_doc ⟨Nat.le_of_ble_eq_true rfl, Nat.le_of_ble_eq_true rfl⟩) (z_preS hK hS (zN_le hAn hS)) rfl rfl hl.1 rfl (lv_room (Nat.le_of_ble_eq_true rfl)) dX4_create_101 ⟨Nat.le_of_ble_eq_true rfl, Nat.le_of_ble_eq_true rfl⟩) hS (zN_le hAn hS) rfl rfl (fun locs hS => ?_)
          refine lv_iconst (v := iI 1) hx hb dX4_create_104 rfl ?_
          refine z_iadd (x := 5 + 32 * w 2) (y := 1) hx hb dX4_create_105 ?_
          refine lv_iconst (v := iI 1) hx hb dX4_create_106 rfl ?_
          refine zt_st (i := 5 + 32 * w 2 + 1) (x := 1) hx hb hK hT hTA hS ⟨by omega, by omega⟩ (by decide) dX4_create_107 (fun H locs hT hS => ?_)
          refine lv_aload_n hx hb dX4_create_108 rfl (lv_at hl 2 rfl) ?_
          refine z_get (k := 0) hx hb hts in_X4 hown hK hT.1 rfl (by decide) q2331 rfl (v := .ref t.2.1) rfl dX4_create_109 ?_
          refine lv_iload_n hx hb dX4_create_112 rfl (lv_at hl 1 rfl) ?_
          refine lv_iconst (v := iI 0) hx hb dX4_create_113 rfl ?_
          refine z_callp (vx_runS (As := [.int (iI (w 2)), .int (iI 0)]) (rest := [.ref t.2.1]) ⟨hx, hb, hml, hown, hts⟩ (tc_place l (d := w 2) (b := 0)) (va_cwS 2 hts (lw_S q2398 q2399 q49 q2400) rfl rfl rfl hn_X4_place ⟨Nat.le_of_ble_eq_true rfl, Nat.le_of_ble_eq_true rfl⟩) (z_preS hK hS (zN_le hAn hS)) rfl rfl hl.1 rfl (lv_room (Nat.le_of_ble_eq_true rfl)) dX4_create_114 ⟨Nat.le_of_ble_eq_true rfl, Nat.le_of_ble_eq_true rfl⟩) hS (zN_le hAn hS) rfl rfl (fun locs hS => ?_)
          refine lv_iconst (v := iI 0) hx hb dX4_create_117 rfl ?_
          refine z_iadd0 hx hb dX4_create_118 ?_
          refine lv_iconst (v := iI (-1)) hx hb dX4_create_119 rfl ?_
          refine zt_st (i := 5 + 32 * w 2 + 8 + 8 * 0) (x := (-1)) hx hb hK hT hTA hS ⟨by omega, by omega⟩ (by decide) dX4_create_120 (fun H locs hT hS => ?_)
          refine lv_aload_n hx hb dX4_create_121 rfl (lv_at hl 2 rfl) ?_
          refine z_get (k := 0) hx hb hts in_X4 hown hK hT.1 rfl (by decide) q2331 rfl (v := .ref t.2.1) rfl dX4_create_122 ?_
          refine lv_iconst (v := iI 2) hx hb dX4_create_125 rfl ?_
          refine lv_dup2_11 hx hb dX4_create_126 rfl rfl ?_
          refine z_ildZ (i := 2) (f := zup (zup (zup (tw_zr w (5 + 32 * w 2) 32) (5 + 32 * w 2) a1) (5 + 32 * w 2 + 1) 1) (5 + 32 * w 2 + 8 + 8 * 0) (-1)) hx hb hK hT.2.1 ⟨by omega, by omega⟩ (by decide) dX4_create_127 ?_
          refine z_top (x := (zup (zup (zup (tw_zr w (5 + 32 * w 2) 32) (5 + 32 * w 2) a1) (5 + 32 * w 2 + 1) 1) (5 + 32 * w 2 + 8 + 8 * 0) (-1)) 2) (y := w 2) (by rw [zup_n (by omega), zup_n (by omega), zup_n (by omega), tw_zr_n _ (by omega)]) ?_
          have r_11 : inR (w 2) := (by first | exact hwR _ | exact hT.2.2.2.2.2.2.1 2)
          refine lv_iconst (v := iI 1) hx hb dX4_create_128 rfl ?_
          refine z_iadd (x := w 2) (y := 1) hx hb dX4_create_129 ?_
          refine zt_st (i := 2) (x := w 2 + 1) hx hb hK hT hTA hS ⟨by omega, by omega⟩ (by first | with_reducible assumption | omega | exact ⟨by omega, by omega⟩) dX4_create_130 (fun H locs hT hS => ?_)
          refine lv_iload_n hx hb dX4_create_131 rfl (lv_at hl 1 rfl) ?_
          refine lv_iconst (v := iI 0) hx hb dX4_create_132 rfl ?_
          refine z_callp (vx_runS (As := [.int (iI (w 2)), .int (iI 0)]) (rest := []) ⟨hx, hb, hml, hown, hts⟩ (tc_place l (d := w 2) (b := 0)) (va_cwS 2 hts (lw_S q2398 q2399 q49 q2400) rfl rfl rfl hn_X4_place ⟨Nat.le_of_ble_eq_true rfl, Nat.le_of_ble_eq_true rfl⟩) (z_preS hK hS (zN_le hAn hS)) rfl rfl hl.1 rfl (lv_room (Nat.le_of_ble_eq_true rfl)) dX4_create_133 ⟨Nat.le_of_ble_eq_true rfl, Nat.le_of_ble_eq_true rfl⟩) hS (zN_le hAn hS) rfl rfl (fun locs hS => ?_)
          refine lv_iconst (v := iI 4) hx hb dX4_create_136 rfl ?_
          refine z_iadd (x := 5 + 32 * w 2 + 8 + 8 * 0) (y := 4) hx hb dX4_create_137 ?_
          refine lv_istore (lv' := [(4, .int (iI (5 + 32 * w 2 + 8 + 8 * 0 + 4))), (3, .int (iI (w 2))), (0, .ref t.1), (1, .int (iI a1)), (2, .int (iI a2))]) hx hb dX4_create_138 hl (by decide) rfl (fun ls hl => ?_)
          refine lv_aload_n hx hb dX4_create_140 rfl (lv_at hl 2 rfl) ?_
          refine z_get (k := 0) hx hb hts in_X4 hown hK hT.1 rfl (by decide) q2331 rfl (v := .ref t.2.1) rfl dX4_create_141 ?_
          refine lv_iload hx hb dX4_create_144 (lv_at hl 0 rfl) ?_
          refine lv_iconst (v := iI 3) hx hb dX4_create_146 rfl ?_
          refine z_iadd (x := 5 + 32 * w 2 + 8 + 8 * 0 + 4) (y := 3) hx hb dX4_create_147 ?_
          refine lv_iload_n hx hb dX4_create_148 rfl (lv_at hl 4 rfl) ?_
          refine zt_st (i := 5 + 32 * w 2 + 8 + 8 * 0 + 4 + 3) (x := a2) hx hb hK hT hTA hS ⟨by omega, by omega⟩ (by first | with_reducible assumption | omega | exact ⟨by omega, by omega⟩) dX4_create_149 (fun H locs hT hS => ?_)
          refine lv_aload_n hx hb dX4_create_150 rfl (lv_at hl 2 rfl) ?_
          refine lv_iload_n hx hb dX4_create_151 rfl (lv_at hl 1 rfl) ?_
          refine lv_iconst (v := iI 0) hx hb dX4_create_152 rfl ?_
          refine lv_iconst (v := iI 0) hx hb dX4_create_153 rfl ?_
          refine lv_iconst (v := iI 1) hx hb dX4_create_154 rfl ?_
          refine lv_iload hx hb dX4_create_155 (lv_at hl 0 rfl) ?_
          refine z_callm (v := .int (iI ((zup (zup (zup (zup (zup (tw_zr w (5 + 32 * w 2) 32) (5 + 32 * w 2) a1) (5 + 32 * w 2 + 1) 1) (5 + 32 * w 2 + 8 + 8 * 0) (-1)) 2 (w 2 + 1)) (5 + 32 * w 2 + 8 + 8 * 0 + 4 + 3) a2) 3))) (P := (fun H1 => zT G t (tw_make (zup (zup (zup (zup (zup (tw_zr w (5 + 32 * w 2) 32) (5 + 32 * w 2) a1) (5 + 32 * w 2 + 1) 1) (5 + 32 * w 2 + 8 + 8 * 0) (-1)) 2 (w 2 + 1)) (5 + 32 * w 2 + 8 + 8 * 0 + 4 + 3) a2) (w 2) 0 0 1 (5 + 32 * w 2 + 8 + 8 * 0 + 4)) kp lg hr ev rd (tw_ok3 (tw_isPerson a1) (tw_lies a2 0 9999) ((decide (w 2 < 8)) && (decide (w 3 < 60)))) H1)) (vx_runV (As := [.int (iI (w 2)), .int (iI 0), .int (iI 0), .int (iI 1), .int (iI (5 + 32 * w 2 + 8 + 8 * 0 + 4))]) (rest := []) ⟨hx, hb, hml, hown, hts⟩ (tc_make l hT (d := w 2) (b := 0) (mj := 0) (mn := 1) (vals := 5 + 32 * w 2 + 8 + 8 * 0 + 4) (by first | with_reducible assumption | omega | exact ⟨by omega, by omega⟩ | omega) (by first | with_reducible assumption | omega | exact ⟨by omega, by omega⟩ | omega) (by first | with_reducible assumption | omega | exact ⟨by omega, by omega⟩ | omega) (by first | with_reducible assumption | omega | exact ⟨by omega, by omega⟩ | omega) (by rw [zup_n (by omega), zup_n (by omega), zup_n (by omega), zup_n (by omega), zup_n (by omega), tw_zr_n _ (by omega)]; omega) (by first | with_reducible assumption | omega | exact ⟨by omega, by omega⟩ | omega)) (cwV 5 hts (lw_V q2401 q2403 qs15 q49 q2404) rfl rfl rfl hd_X4_make ⟨Nat.le_of_ble_eq_true rfl, Nat.le_of_ble_eq_true rfl⟩) (z_preV hK hS (zTw_le hTA hAn hS) hT.1 rfl rfl) rfl rfl hl.1 rfl (lv_room (Nat.le_of_ble_eq_true rfl)) dX4_create_157 ⟨Nat.le_of_ble_eq_true rfl, Nat.le_of_ble_eq_true rfl⟩) hS (zTw_le hTA hAn hS) rfl rfl (fun H locs hT hS => ?_)
          refine lv_istore (lv' := [(5, .int (iI ((zup (zup (zup (zup (zup (tw_zr w (5 + 32 * w 2) 32) (5 + 32 * w 2) a1) (5 + 32 * w 2 + 1) 1) (5 + 32 * w 2 + 8 + 8 * 0) (-1)) 2 (w 2 + 1)) (5 + 32 * w 2 + 8 + 8 * 0 + 4 + 3) a2) 3))), (4, .int (iI (5 + 32 * w 2 + 8 + 8 * 0 + 4))), (3, .int (iI (w 2))), (0, .ref t.1), (1, .int (iI a1)), (2, .int (iI a2))]) hx hb dX4_create_160 hl (by decide) rfl (fun ls hl => ?_)
          refine lv_aload_n hx hb dX4_create_162 rfl (lv_at hl 3 rfl) ?_
          refine lv_iconst (v := iI 2) hx hb dX4_create_163 rfl ?_
          refine lv_iload_n hx hb dX4_create_164 rfl (lv_at hl 4 rfl) ?_
          refine lv_iload_n hx hb dX4_create_165 rfl (lv_at hl 5 rfl) ?_
          refine lv_iconst (v := iI 0) hx hb dX4_create_166 rfl ?_
          refine lv_iconst (v := iI 0) hx hb dX4_create_167 rfl ?_
          refine lv_iconst (v := iI 0) hx hb dX4_create_168 rfl ?_
          refine z_callmv (P := (fun H1 => zT G t (tw_make (zup (zup (zup (zup (zup (tw_zr w (5 + 32 * w 2) 32) (5 + 32 * w 2) a1) (5 + 32 * w 2 + 1) 1) (5 + 32 * w 2 + 8 + 8 * 0) (-1)) 2 (w 2 + 1)) (5 + 32 * w 2 + 8 + 8 * 0 + 4 + 3) a2) (w 2) 0 0 1 (5 + 32 * w 2 + 8 + 8 * 0 + 4)) kp (kL rd 0 ev lg 2 a1 a2 0 0 0) (kH rd 0 ev hr ((tw_make (zup (zup (zup (zup (zup (tw_zr w (5 + 32 * w 2) 32) (5 + 32 * w 2) a1) (5 + 32 * w 2 + 1) 1) (5 + 32 * w 2 + 8 + 8 * 0) (-1)) 2 (w 2 + 1)) (5 + 32 * w 2 + 8 + 8 * 0 + 4 + 3) a2) (w 2) 0 0 1 (5 + 32 * w 2 + 8 + 8 * 0 + 4)) 0)) (kE rd 0 ev) rd (tw_ok3 (tw_isPerson a1) (tw_lies a2 0 9999) ((decide (w 2 < 8)) && (decide (w 3 < 60)))) H1)) (vx_runV (As := [.int (iI 2), .int (iI a1), .int (iI a2), .int (iI 0), .int (iI 0), .int (iI 0)]) (rest := []) ⟨hx, hb, hml, hown, hts⟩ (tc_keep l hT (k0 := 2) (a1 := a1) (a2 := a2) (a3 := 0) (a4 := 0) (a5 := 0) (by first | with_reducible assumption | omega | exact ⟨by omega, by omega⟩ | omega) (by first | with_reducible assumption | omega | exact ⟨by omega, by omega⟩ | omega) (by first | with_reducible assumption | omega | exact ⟨by omega, by omega⟩ | omega) (by first | with_reducible assumption | omega | exact ⟨by omega, by omega⟩ | omega) (by first | with_reducible assumption | omega | exact ⟨by omega, by omega⟩ | omega) (by first | with_reducible assumption | omega | exact ⟨by omega, by omega⟩ | omega) (by first | with_reducible assumption | omega | exact ⟨by omega, by omega⟩ | omega)) (cwV 6 hts (lw_V q2376 q2378 qs13 q49 q2379) rfl rfl rfl hd_X4_keep ⟨Nat.le_of_ble_eq_true rfl, Nat.le_of_ble_eq_true rfl⟩) (z_preV hK hS (zTw_le hTA hAn hS) hT.1 rfl rfl) rfl rfl hl.1 rfl (lv_room (Nat.le_of_ble_eq_true rfl)) dX4_create_169 ⟨Nat.le_of_ble_eq_true rfl, Nat.le_of_ble_eq_true rfl⟩) hS (zTw_le hTA hAn hS) rfl rfl (fun H locs hT hS => ?_)
          refine lv_iload_n hx hb dX4_create_172 rfl (lv_at hl 2 rfl) ?_
          exact z_iret hx hb hret rfl hlocks hS (by have hc : tC_create w a1 a2 = 0 := (by unfold tC_create; simp only [tw_ok3_0]; first | assumption | (simp_all; done)); exact z_okend hc rfl hT) (Nat.le_of_ble_eq_true rfl) (Nat.le_of_ble_eq_true rfl) dX4_create_173
        · refine lv_aload_n hx hb dX4_create_65 rfl (lv_at hl 2 rfl) ?_
          refine z_get (k := 0) hx hb hts in_X4 hown hK hT.1 rfl (by decide) q2331 rfl (v := .ref t.2.1) rfl dX4_create_66 ?_
          refine lv_iload_n hx hb dX4_create_69 rfl (lv_at hl 1 rfl) ?_
          refine z_callp (vx_runS (As := [.int (iI (w 2))]) (rest := [.ref t.2.1]) ⟨hx, hb, hml, hown, hts⟩ (tc_doc l (d := w 2)) (va_cwS 1 hts (lw_S q2395 q2396 q49 q2397) rfl rfl rfl hn_X4_doc ⟨Nat.le_of_ble_eq_true rfl, Nat.le_of_ble_eq_true rfl⟩) (z_preS hK hS (zN_le hAn hS)) rfl rfl hl.1 rfl (lv_room (Nat.le_of_ble_eq_true rfl)) dX4_create_70 ⟨Nat.le_of_ble_eq_true rfl, Nat.le_of_ble_eq_true rfl⟩) hS (zN_le hAn hS) rfl rfl (fun locs hS => ?_)
          refine lv_iload hx hb dX4_create_73 (lv_at hl 0 rfl) ?_
          refine z_iadd (x := 5 + 32 * w 2) (y := ((i_8 : Nat) : Int)) hx hb dX4_create_75 ?_
          refine lv_iconst (v := iI 0) hx hb dX4_create_76 rfl ?_
          refine zt_st (i := 5 + 32 * w 2 + ((i_8 : Nat) : Int)) (x := 0) hx hb hK hT hTA hS ⟨by omega, by omega⟩ (by decide) dX4_create_77 (fun H locs hT hS => ?_)
          refine lv_iinc (v := iI (((i_8 : Nat) : Int) + 1)) (lv' := [(4, .int (iI (((i_8 : Nat) : Int) + 1))), (3, .int (iI (w 2))), (0, .ref t.1), (1, .int (iI a1)), (2, .int (iI a2))]) hx hb dX4_create_78 hl (k := 0) rfl (iI_add _ _) (by decide) rfl (fun ls hl => ?_)
          refine lv_goto (tgt := 58) hx hb dX4_create_81 (by decide) ?_
          exact ih_9 (i_8 + 1) _ _ ⟨by omega, hT⟩ hS (by omega) ls (z_lvren (lv_sub hl [0, 1, 2, 3, 4] rfl) (by first | rfl | simp))
      · exact ⟨by omega, hT⟩
    · refine lv_iconst (v := iI 0) hx hb dX4_create_46 rfl ?_
      exact z_iret hx hb hret rfl hlocks hS (by have hc : ¬ tC_create w a1 a2 = 0 := (by unfold tC_create; simp only [tw_ok3_0]; first | (simp_all; done) | assumption); exact z_noend hc hT) (Nat.le_of_ble_eq_true rfl) (Nat.le_of_ble_eq_true rfl) dX4_create_47
def tC_grant (w : Int → Int) (a1 a2 a3 a4 : Int) : Int := tw_ok3 ((tw_isPerson a1) && ((tw_isDocument w a2) && (tw_isPerson a3))) (((tw_isPerson a1) && ((tw_isDocument w a2) && (tw_isPerson a3))) && ((tw_lies a4 0 2) && (!(tw_owns w a3 a2)))) ((((tw_isPerson a1) && ((tw_isDocument w a2) && (tw_isPerson a3))) && ((tw_lies a4 0 2) && (!(tw_owns w a3 a2)))) && (tw_owns w a1 a2))
def tW_grant (w : Int → Int) (a1 a2 a3 a4 : Int) : Int → Int := zup w (5 + 32 * a2 + 2 + a3) a4
def tA_grant (w : Int → Int) (a1 a2 a3 a4 : Int) : Int := w (5 + 32 * a2 + 2 + a3)
theorem hn_X4_grant : yX4_grant.cls ≠ "java/lang/invoke/MethodHandle" ∧ yX4_grant.cls ≠ "java/lang/invoke/VarHandle" ∧ (parseMethodDescriptor yX4_grant.desc).map (fun d => d.parameters.length) = some 4 := by decide +kernel
theorem hd_X4_grant : yX4_grant.cls = "CheckoutDeskModel" ∧ yX4_grant.cls ≠ "java/lang/invoke/MethodHandle" ∧ yX4_grant.cls ≠ "java/lang/invoke/VarHandle" ∧ (parseMethodDescriptor yX4_grant.desc).map (fun d => d.parameters.length) = some 4 := ⟨rfl, hn_X4_grant⟩
abbrev rm_X4_grant : Room := { frames := 3, cells := 0, slots := 0, locals := 59 }
set_option maxHeartbeats 1000000 in
theorem tc_grant (l : Launch) {G : zG} {t : zTau} {w kp lg hr : Int → Int} {ev rd th : Int} {H0 : Heap} (hT : zT G t w kp lg hr ev rd th H0) {a1 a2 a3 a4 : Int} (ha1 : inR a1) (ha2 : inR a2) (ha3 : inR a3) (ha4 : inR a4) {n_ : Int} (hI : tInv n_ w) (hn_ : n_ < 2000) (hev2 : rd = 0 → ev < 2000) : zM l yX4_grant (ws_ yX4_grant cX4_grant 9 (some .int)) rm_X4_grant G (zTw t H0) [.ref t.1, .int (iI a1), .int (iI a2), .int (iI a3), .int (iI a4)] H0 (fun r H1 => r = some (.int (iI (kA (tC_grant w a1 a2 a3 a4) (tA_grant w a1 a2 a3 a4)))) ∧ zT G t (kW (tC_grant w a1 a2 a3 a4) w (tW_grant w a1 a2 a3 a4)) kp (kL rd (tC_grant w a1 a2 a3 a4) ev lg 3 a1 a2 a3 a4 0) (kH rd (tC_grant w a1 a2 a3 a4) ev hr (tW_grant w a1 a2 a3 a4 0)) (kE rd (tC_grant w a1 a2 a3 a4) ev) rd (tC_grant w a1 a2 a3 a4) H1) (fun _ => False) := by
  refine z_enter (by decide +kernel) (Nat.le_of_ble_eq_true rfl) ?_
  intro p e s m args below meth c ls hx hb hret hml hown hts hlocks htab hnm hK hH hl
  subst hH
  have hAn : ∀ q, s.heap.size ≤ q → zTw t s.heap q := fun _ h => Or.inr h
  have hTA : ∀ q, zTA t q → zTw t s.heap q := fun _ h => Or.inl h
  have hS : va_S (zTw t s.heap) s.heap s.heap [] := va_S.rf
  have hl : lv_has ls 9 [(0, .ref t.1), (1, .int (iI a1)), (2, .int (iI a2)), (3, .int (iI a3)), (4, .int (iI a4))] := hl
  have hrd := hT.2.2.2.2.2.2.2.2.2.2.2
  have hev := hT.2.2.2.2.2.2.2.2.2.2.1
  have hwR := hT.2.2.2.2.2.2.1
  obtain ⟨hD, hV, hL, hB, hVd, hLk, hClk, hDoc, hBr, hVer, hLnk, hNew, hFr⟩ := hI
  refine lv_iload_n hx hb dX4_grant_0 rfl (lv_at hl 1 rfl) ?_
  refine z_callp (vx_runS (As := [.int (iI a1)]) (rest := []) ⟨hx, hb, hml, hown, hts⟩ (tc_isPerson l (p_ := a1) (by first | with_reducible assumption | omega | exact ⟨by omega, by omega⟩ | omega)) (va_cwS 1 hts (lw_S q2392 q2393 q49 q2394) rfl rfl rfl hn_X4_isPerson ⟨Nat.le_of_ble_eq_true rfl, Nat.le_of_ble_eq_true rfl⟩) (z_preS hK hS (zN_le hAn hS)) rfl rfl hl.1 rfl (lv_room (Nat.le_of_ble_eq_true rfl)) dX4_grant_1 ⟨Nat.le_of_ble_eq_true rfl, Nat.le_of_ble_eq_true rfl⟩) hS (zN_le hAn hS) rfl rfl (fun locs hS => ?_)
  refine z_join (pc2 := 27) (nL := 9) (lv := [(0, .ref t.1), (1, .int (iI a1)), (2, .int (iI a2)), (3, .int (iI a3)), (4, .int (iI a4))]) (st2 := [.int (iI (bI ((tw_isPerson a1) && ((tw_isDocument w a2) && (tw_isPerson a3)))))]) hS (fun J_1 => ?_) (fun locs ls hS hl => ?_)
  · refine z_ifb_eq (b := tw_isPerson a1) (tgt := 26) hx hb dX4_grant_4 (by decide) (fun c_2 => ?_) (fun c_2 => ?_)
    · refine lv_iconst (v := iI 0) hx hb dX4_grant_26 rfl ?_
      refine z_top (x := 0) (y := bI ((tw_isPerson a1) && ((tw_isDocument w a2) && (tw_isPerson a3)))) (by simp [bI, c_2]) ?_
      exact J_1 _ ls hS (lv_sub hl [0, 1, 2, 3, 4] rfl)
    · refine lv_aload_n hx hb dX4_grant_7 rfl (lv_at hl 0 rfl) ?_
      refine lv_iload_n hx hb dX4_grant_8 rfl (lv_at hl 2 rfl) ?_
      refine z_callp (vx_runV (As := [.int (iI a2)]) (rest := []) ⟨hx, hb, hml, hown, hts⟩ (tc_isDocument l hT (d := a2) (by first | with_reducible assumption | omega | exact ⟨by omega, by omega⟩ | omega) (by first | with_reducible assumption | omega | exact ⟨by omega, by omega⟩ | omega)) (cwV 1 hts (lw_V q2412 q2414 qs16 q49 q2415) rfl rfl rfl hd_X4_isDocument ⟨Nat.le_of_ble_eq_true rfl, Nat.le_of_ble_eq_true rfl⟩) (z_preV hK hS (zN_le hAn hS) hT.1 rfl rfl) rfl rfl hl.1 rfl (lv_room (Nat.le_of_ble_eq_true rfl)) dX4_grant_9 ⟨Nat.le_of_ble_eq_true rfl, Nat.le_of_ble_eq_true rfl⟩) hS (zN_le hAn hS) rfl rfl (fun locs hS => ?_)
      refine z_ifb_eq (b := tw_isDocument w a2) (tgt := 26) hx hb dX4_grant_12 (by decide) (fun c_3 => ?_) (fun c_3 => ?_)
      · refine lv_iconst (v := iI 0) hx hb dX4_grant_26 rfl ?_
        refine z_top (x := 0) (y := bI ((tw_isPerson a1) && ((tw_isDocument w a2) && (tw_isPerson a3)))) (by simp [bI, c_2, c_3]) ?_
        exact J_1 _ ls hS (lv_sub hl [0, 1, 2, 3, 4] rfl)
      · refine lv_iload_n hx hb dX4_grant_15 rfl (lv_at hl 3 rfl) ?_
        refine z_callp (vx_runS (As := [.int (iI a3)]) (rest := []) ⟨hx, hb, hml, hown, hts⟩ (tc_isPerson l (p_ := a3) (by first | with_reducible assumption | omega | exact ⟨by omega, by omega⟩ | omega)) (va_cwS 1 hts (lw_S q2392 q2393 q49 q2394) rfl rfl rfl hn_X4_isPerson ⟨Nat.le_of_ble_eq_true rfl, Nat.le_of_ble_eq_true rfl⟩) (z_preS hK hS (zN_le hAn hS)) rfl rfl hl.1 rfl (lv_room (Nat.le_of_ble_eq_true rfl)) dX4_grant_16 ⟨Nat.le_of_ble_eq_true rfl, Nat.le_of_ble_eq_true rfl⟩) hS (zN_le hAn hS) rfl rfl (fun locs hS => ?_)
        refine z_ifb_eq (b := tw_isPerson a3) (tgt := 26) hx hb dX4_grant_19 (by decide) (fun c_4 => ?_) (fun c_4 => ?_)
        · refine lv_iconst (v := iI 0) hx hb dX4_grant_26 rfl ?_
          refine z_top (x := 0) (y := bI ((tw_isPerson a1) && ((tw_isDocument w a2) && (tw_isPerson a3)))) (by simp [bI, c_2, c_3, c_4]) ?_
          exact J_1 _ ls hS (lv_sub hl [0, 1, 2, 3, 4] rfl)
        · refine lv_iconst (v := iI 1) hx hb dX4_grant_22 rfl ?_
          refine lv_goto (tgt := 27) hx hb dX4_grant_23 (by decide) ?_
          refine z_top (x := 1) (y := bI ((tw_isPerson a1) && ((tw_isDocument w a2) && (tw_isPerson a3)))) (by simp [bI, c_2, c_3, c_4]) ?_
          exact J_1 _ ls hS (lv_sub hl [0, 1, 2, 3, 4] rfl)
  · refine lv_istore (lv' := [(5, .int (iI (bI ((tw_isPerson a1) && ((tw_isDocument w a2) && (tw_isPerson a3)))))), (0, .ref t.1), (1, .int (iI a1)), (2, .int (iI a2)), (3, .int (iI a3)), (4, .int (iI a4))]) hx hb dX4_grant_27 hl (by decide) rfl (fun ls hl => ?_)
    refine lv_iload hx hb dX4_grant_29 (lv_at hl 0 rfl) ?_
    refine z_join (pc2 := 58) (nL := 9) (lv := [(5, .int (iI (bI ((tw_isPerson a1) && ((tw_isDocument w a2) && (tw_isPerson a3)))))), (0, .ref t.1), (1, .int (iI a1)), (2, .int (iI a2)), (3, .int (iI a3)), (4, .int (iI a4))]) (st2 := [.int (iI (bI (((tw_isPerson a1) && ((tw_isDocument w a2) && (tw_isPerson a3))) && ((tw_lies a4 0 2) && (!(tw_owns w a3 a2))))))]) hS (fun J_5 => ?_) (fun locs ls hS hl => ?_)
    · refine z_ifb_eq (b := (tw_isPerson a1) && ((tw_isDocument w a2) && (tw_isPerson a3))) (tgt := 57) hx hb dX4_grant_31 (by decide) (fun c_6 => ?_) (fun c_6 => ?_)
      · refine lv_iconst (v := iI 0) hx hb dX4_grant_57 rfl ?_
        refine z_top (x := 0) (y := bI (((tw_isPerson a1) && ((tw_isDocument w a2) && (tw_isPerson a3))) && ((tw_lies a4 0 2) && (!(tw_owns w a3 a2))))) (by simp [bI, c_6]) ?_
        exact J_5 _ ls hS (lv_sub hl [0, 1, 2, 3, 4, 5] rfl)
      · have hc := c_6
        simp only [Bool.and_eq_true, Bool.or_eq_true, decide_eq_true_eq, Bool.not_eq_eq_eq_not, Bool.not_true, decide_eq_false_iff_not, Bool.not_false] at hc
        rw [tw_isPerson_iff, tw_isDocument_iff, tw_isPerson_iff] at hc
        refine lv_iload hx hb dX4_grant_34 (lv_at hl 5 rfl) ?_
        refine lv_iconst (v := iI 0) hx hb dX4_grant_36 rfl ?_
        refine lv_iconst (v := iI 2) hx hb dX4_grant_37 rfl ?_
        refine z_callp (vx_runS (As := [.int (iI a4), .int (iI 0), .int (iI 2)]) (rest := []) ⟨hx, hb, hml, hown, hts⟩ (tc_lies l (v := a4) (low := 0) (high := 2) (by first | with_reducible assumption | omega | exact ⟨by omega, by omega⟩ | omega) (by first | with_reducible assumption | omega | exact ⟨by omega, by omega⟩ | omega) (by first | with_reducible assumption | omega | exact ⟨by omega, by omega⟩ | omega)) (va_cwS 3 hts (lw_S q2365 q2366 q49 q2367) rfl rfl rfl hn_X4_lies ⟨Nat.le_of_ble_eq_true rfl, Nat.le_of_ble_eq_true rfl⟩) (z_preS hK hS (zN_le hAn hS)) rfl rfl hl.1 rfl (lv_room (Nat.le_of_ble_eq_true rfl)) dX4_grant_38 ⟨Nat.le_of_ble_eq_true rfl, Nat.le_of_ble_eq_true rfl⟩) hS (zN_le hAn hS) rfl rfl (fun locs hS => ?_)
        refine z_ifb_eq (b := tw_lies a4 0 2) (tgt := 57) hx hb dX4_grant_41 (by decide) (fun c_7 => ?_) (fun c_7 => ?_)
        · refine lv_iconst (v := iI 0) hx hb dX4_grant_57 rfl ?_
          refine z_top (x := 0) (y := bI (((tw_isPerson a1) && ((tw_isDocument w a2) && (tw_isPerson a3))) && ((tw_lies a4 0 2) && (!(tw_owns w a3 a2))))) (by simp [bI, c_6, c_7]) ?_
          exact J_5 _ ls hS (lv_sub hl [0, 1, 2, 3, 4, 5] rfl)
        · refine lv_aload_n hx hb dX4_grant_44 rfl (lv_at hl 1 rfl) ?_
          refine lv_iload_n hx hb dX4_grant_45 rfl (lv_at hl 4 rfl) ?_
          refine lv_iload_n hx hb dX4_grant_46 rfl (lv_at hl 3 rfl) ?_
          refine z_callp (vx_runV (As := [.int (iI a3), .int (iI a2)]) (rest := []) ⟨hx, hb, hml, hown, hts⟩ (tc_owns l hT (p_ := a3) (d := a2) (by first | with_reducible assumption | omega | exact ⟨by omega, by omega⟩ | omega) (by first | with_reducible assumption | omega | exact ⟨by omega, by omega⟩ | omega)) (cwV 2 hts (lw_V q2416 q2418 qs17 q49 q2419) rfl rfl rfl hd_X4_owns ⟨Nat.le_of_ble_eq_true rfl, Nat.le_of_ble_eq_true rfl⟩) (z_preV hK hS (zN_le hAn hS) hT.1 rfl rfl) rfl rfl hl.1 rfl (lv_room (Nat.le_of_ble_eq_true rfl)) dX4_grant_47 ⟨Nat.le_of_ble_eq_true rfl, Nat.le_of_ble_eq_true rfl⟩) hS (zN_le hAn hS) rfl rfl (fun locs hS => ?_)
          refine z_ifb_ne (b := tw_owns w a3 a2) (tgt := 57) hx hb dX4_grant_50 (by decide) (fun c_8 => ?_) (fun c_8 => ?_)
          · refine lv_iconst (v := iI 0) hx hb dX4_grant_57 rfl ?_
            refine z_top (x := 0) (y := bI (((tw_isPerson a1) && ((tw_isDocument w a2) && (tw_isPerson a3))) && ((tw_lies a4 0 2) && (!(tw_owns w a3 a2))))) (by simp [bI, c_6, c_7, c_8]) ?_
            exact J_5 _ ls hS (lv_sub hl [0, 1, 2, 3, 4, 5] rfl)
          · refine lv_iconst (v := iI 1) hx hb dX4_grant_53 rfl ?_
            refine lv_goto (tgt := 58) hx hb dX4_grant_54 (by decide) ?_
            refine z_top (x := 1) (y := bI (((tw_isPerson a1) && ((tw_isDocument w a2) && (tw_isPerson a3))) && ((tw_lies a4 0 2) && (!(tw_owns w a3 a2))))) (by simp [bI, c_6, c_7, c_8]) ?_
            exact J_5 _ ls hS (lv_sub hl [0, 1, 2, 3, 4, 5] rfl)
    · refine lv_istore (lv' := [(6, .int (iI (bI (((tw_isPerson a1) && ((tw_isDocument w a2) && (tw_isPerson a3))) && ((tw_lies a4 0 2) && (!(tw_owns w a3 a2))))))), (5, .int (iI (bI ((tw_isPerson a1) && ((tw_isDocument w a2) && (tw_isPerson a3)))))), (0, .ref t.1), (1, .int (iI a1)), (2, .int (iI a2)), (3, .int (iI a3)), (4, .int (iI a4))]) hx hb dX4_grant_58 hl (by decide) rfl (fun ls hl => ?_)
      refine lv_aload_n hx hb dX4_grant_60 rfl (lv_at hl 2 rfl) ?_
      refine lv_iload hx hb dX4_grant_61 (lv_at hl 1 rfl) ?_
      refine lv_iload hx hb dX4_grant_63 (lv_at hl 0 rfl) ?_
      refine lv_iload hx hb dX4_grant_65 (lv_at hl 0 rfl) ?_
      refine z_join (pc2 := 84) (nL := 9) (lv := [(6, .int (iI (bI (((tw_isPerson a1) && ((tw_isDocument w a2) && (tw_isPerson a3))) && ((tw_lies a4 0 2) && (!(tw_owns w a3 a2))))))), (5, .int (iI (bI ((tw_isPerson a1) && ((tw_isDocument w a2) && (tw_isPerson a3)))))), (0, .ref t.1), (1, .int (iI a1)), (2, .int (iI a2)), (3, .int (iI a3)), (4, .int (iI a4))]) (st2 := [.int (iI (bI ((((tw_isPerson a1) && ((tw_isDocument w a2) && (tw_isPerson a3))) && ((tw_lies a4 0 2) && (!(tw_owns w a3 a2)))) && (tw_owns w a1 a2)))), .int (iI (bI (((tw_isPerson a1) && ((tw_isDocument w a2) && (tw_isPerson a3))) && ((tw_lies a4 0 2) && (!(tw_owns w a3 a2)))))), .int (iI (bI ((tw_isPerson a1) && ((tw_isDocument w a2) && (tw_isPerson a3))))), .ref t.1]) hS (fun J_9 => ?_) (fun locs ls hS hl => ?_)
      · refine z_ifb_eq (b := ((tw_isPerson a1) && ((tw_isDocument w a2) && (tw_isPerson a3))) && ((tw_lies a4 0 2) && (!(tw_owns w a3 a2)))) (tgt := 83) hx hb dX4_grant_67 (by decide) (fun c_10 => ?_) (fun c_10 => ?_)
        · refine lv_iconst (v := iI 0) hx hb dX4_grant_83 rfl ?_
          refine z_top (x := 0) (y := bI ((((tw_isPerson a1) && ((tw_isDocument w a2) && (tw_isPerson a3))) && ((tw_lies a4 0 2) && (!(tw_owns w a3 a2)))) && (tw_owns w a1 a2))) (by simp [bI, c_10]) ?_
          exact J_9 _ ls hS (lv_sub hl [0, 1, 2, 3, 4, 5, 6] rfl)
        · have hc := c_10
          obtain ⟨c_are, -⟩ := Bool.and_eq_true_iff.mp hc
          have hc := c_are
          simp only [Bool.and_eq_true, Bool.or_eq_true, decide_eq_true_eq, Bool.not_eq_eq_eq_not, Bool.not_true, decide_eq_false_iff_not, Bool.not_false] at hc
          rw [tw_isPerson_iff, tw_isDocument_iff, tw_isPerson_iff] at hc
          refine lv_aload_n hx hb dX4_grant_70 rfl (lv_at hl 2 rfl) ?_
          refine lv_iload_n hx hb dX4_grant_71 rfl (lv_at hl 3 rfl) ?_
          refine lv_iload_n hx hb dX4_grant_72 rfl (lv_at hl 4 rfl) ?_
          refine z_callp (vx_runV (As := [.int (iI a1), .int (iI a2)]) (rest := [.int (iI (bI (((tw_isPerson a1) && ((tw_isDocument w a2) && (tw_isPerson a3))) && ((tw_lies a4 0 2) && (!(tw_owns w a3 a2)))))), .int (iI (bI ((tw_isPerson a1) && ((tw_isDocument w a2) && (tw_isPerson a3))))), .ref t.1]) ⟨hx, hb, hml, hown, hts⟩ (tc_owns l hT (p_ := a1) (d := a2) (by first | with_reducible assumption | omega | exact ⟨by omega, by omega⟩ | omega) (by first | with_reducible assumption | omega | exact ⟨by omega, by omega⟩ | omega)) (cwV 2 hts (lw_V q2416 q2418 qs17 q49 q2419) rfl rfl rfl hd_X4_owns ⟨Nat.le_of_ble_eq_true rfl, Nat.le_of_ble_eq_true rfl⟩) (z_preV hK hS (zN_le hAn hS) hT.1 rfl rfl) rfl rfl hl.1 rfl (lv_room (Nat.le_of_ble_eq_true rfl)) dX4_grant_73 ⟨Nat.le_of_ble_eq_true rfl, Nat.le_of_ble_eq_true rfl⟩) hS (zN_le hAn hS) rfl rfl (fun locs hS => ?_)
          refine z_ifb_eq (b := tw_owns w a1 a2) (tgt := 83) hx hb dX4_grant_76 (by decide) (fun c_11 => ?_) (fun c_11 => ?_)
          · refine lv_iconst (v := iI 0) hx hb dX4_grant_83 rfl ?_
            refine z_top (x := 0) (y := bI ((((tw_isPerson a1) && ((tw_isDocument w a2) && (tw_isPerson a3))) && ((tw_lies a4 0 2) && (!(tw_owns w a3 a2)))) && (tw_owns w a1 a2))) (by simp [bI, c_10, c_11]) ?_
            exact J_9 _ ls hS (lv_sub hl [0, 1, 2, 3, 4, 5, 6] rfl)
          · refine lv_iconst (v := iI 1) hx hb dX4_grant_79 rfl ?_
            refine lv_goto (tgt := 84) hx hb dX4_grant_80 (by decide) ?_
            refine z_top (x := 1) (y := bI ((((tw_isPerson a1) && ((tw_isDocument w a2) && (tw_isPerson a3))) && ((tw_lies a4 0 2) && (!(tw_owns w a3 a2)))) && (tw_owns w a1 a2))) (by simp [bI, c_10, c_11]) ?_
            exact J_9 _ ls hS (lv_sub hl [0, 1, 2, 3, 4, 5, 6] rfl)
      · refine z_callm (v := .int (iI (bI (((tw_isPerson a1) && ((tw_isDocument w a2) && (tw_isPerson a3))) && ((((tw_isPerson a1) && ((tw_isDocument w a2) && (tw_isPerson a3))) && ((tw_lies a4 0 2) && (!(tw_owns w a3 a2)))) && ((((tw_isPerson a1) && ((tw_isDocument w a2) && (tw_isPerson a3))) && ((tw_lies a4 0 2) && (!(tw_owns w a3 a2)))) && (tw_owns w a1 a2))))))) (P := (fun H1 => zT G t w kp lg hr ev rd (tw_ok3 ((tw_isPerson a1) && ((tw_isDocument w a2) && (tw_isPerson a3))) (((tw_isPerson a1) && ((tw_isDocument w a2) && (tw_isPerson a3))) && ((tw_lies a4 0 2) && (!(tw_owns w a3 a2)))) ((((tw_isPerson a1) && ((tw_isDocument w a2) && (tw_isPerson a3))) && ((tw_lies a4 0 2) && (!(tw_owns w a3 a2)))) && (tw_owns w a1 a2))) H1)) (vx_runV (As := [.int (iI (bI ((tw_isPerson a1) && ((tw_isDocument w a2) && (tw_isPerson a3))))), .int (iI (bI (((tw_isPerson a1) && ((tw_isDocument w a2) && (tw_isPerson a3))) && ((tw_lies a4 0 2) && (!(tw_owns w a3 a2)))))), .int (iI (bI ((((tw_isPerson a1) && ((tw_isDocument w a2) && (tw_isPerson a3))) && ((tw_lies a4 0 2) && (!(tw_owns w a3 a2)))) && (tw_owns w a1 a2))))]) (rest := []) ⟨hx, hb, hml, hown, hts⟩ (tc_ok_2 l hT (ba := (tw_isPerson a1) && ((tw_isDocument w a2) && (tw_isPerson a3))) (bb := ((tw_isPerson a1) && ((tw_isDocument w a2) && (tw_isPerson a3))) && ((tw_lies a4 0 2) && (!(tw_owns w a3 a2)))) (bc := (((tw_isPerson a1) && ((tw_isDocument w a2) && (tw_isPerson a3))) && ((tw_lies a4 0 2) && (!(tw_owns w a3 a2)))) && (tw_owns w a1 a2))) (cwV 3 hts (lw_V q2372 q2374 qs12 q49 q2375) rfl rfl rfl hd_X4_ok_2 ⟨Nat.le_of_ble_eq_true rfl, Nat.le_of_ble_eq_true rfl⟩) (z_preV hK hS (zTw_le hTA hAn hS) hT.1 rfl rfl) rfl rfl hl.1 rfl (lv_room (Nat.le_of_ble_eq_true rfl)) dX4_grant_84 ⟨Nat.le_of_ble_eq_true rfl, Nat.le_of_ble_eq_true rfl⟩) hS (zTw_le hTA hAn hS) rfl rfl (fun H locs hT hS => ?_)
        refine z_ifb_ne (b := ((tw_isPerson a1) && ((tw_isDocument w a2) && (tw_isPerson a3))) && ((((tw_isPerson a1) && ((tw_isDocument w a2) && (tw_isPerson a3))) && ((tw_lies a4 0 2) && (!(tw_owns w a3 a2)))) && ((((tw_isPerson a1) && ((tw_isDocument w a2) && (tw_isPerson a3))) && ((tw_lies a4 0 2) && (!(tw_owns w a3 a2)))) && (tw_owns w a1 a2)))) (tgt := 92) hx hb dX4_grant_87 (by decide) (fun c_12 => ?_) (fun c_12 => ?_)
        · have hc := c_12
          obtain ⟨c_are, c_2_⟩ := Bool.and_eq_true_iff.mp hc
          obtain ⟨c_3_, c_4_⟩ := Bool.and_eq_true_iff.mp c_2_
          have hc := c_are
          simp only [Bool.and_eq_true, Bool.or_eq_true, decide_eq_true_eq, Bool.not_eq_eq_eq_not, Bool.not_true, decide_eq_false_iff_not, Bool.not_false] at hc
          rw [tw_isPerson_iff, tw_isDocument_iff, tw_isPerson_iff] at hc
          have hdoc := (hDoc _ hc.2.1.1 hc.2.1.2).2 _ hc.2.2.1 hc.2.2.2
          refine lv_iload_n hx hb dX4_grant_92 rfl (lv_at hl 4 rfl) ?_
          refine z_callp (vx_runS (As := [.int (iI a2)]) (rest := []) ⟨hx, hb, hml, hown, hts⟩ (tc_doc l (d := a2)) (va_cwS 1 hts (lw_S q2395 q2396 q49 q2397) rfl rfl rfl hn_X4_doc ⟨Nat.le_of_ble_eq_true rfl, Nat.le_of_ble_eq_true rfl⟩) (z_preS hK hS (zN_le hAn hS)) rfl rfl hl.1 rfl (lv_room (Nat.le_of_ble_eq_true rfl)) dX4_grant_93 ⟨Nat.le_of_ble_eq_true rfl, Nat.le_of_ble_eq_true rfl⟩) hS (zN_le hAn hS) rfl rfl (fun locs hS => ?_)
          refine lv_iconst (v := iI 2) hx hb dX4_grant_96 rfl ?_
          refine z_iadd (x := 5 + 32 * a2) (y := 2) hx hb dX4_grant_97 ?_
          refine lv_iload_n hx hb dX4_grant_98 rfl (lv_at hl 5 rfl) ?_
          refine z_iadd (x := 5 + 32 * a2 + 2) (y := a3) hx hb dX4_grant_99 ?_
          refine lv_istore (lv' := [(7, .int (iI (5 + 32 * a2 + 2 + a3))), (6, .int (iI (bI (((tw_isPerson a1) && ((tw_isDocument w a2) && (tw_isPerson a3))) && ((tw_lies a4 0 2) && (!(tw_owns w a3 a2))))))), (5, .int (iI (bI ((tw_isPerson a1) && ((tw_isDocument w a2) && (tw_isPerson a3)))))), (0, .ref t.1), (1, .int (iI a1)), (2, .int (iI a2)), (3, .int (iI a3)), (4, .int (iI a4))]) hx hb dX4_grant_100 hl (by decide) rfl (fun ls hl => ?_)
          refine lv_aload_n hx hb dX4_grant_102 rfl (lv_at hl 3 rfl) ?_
          refine z_get (k := 0) hx hb hts in_X4 hown hK hT.1 rfl (by decide) q2331 rfl (v := .ref t.2.1) rfl dX4_grant_103 ?_
          refine lv_iload hx hb dX4_grant_106 (lv_at hl 0 rfl) ?_
          refine z_ildZ (i := 5 + 32 * a2 + 2 + a3) (f := w) hx hb hK hT.2.1 ⟨by omega, by omega⟩ (by decide) dX4_grant_108 ?_
          have r_13 : inR (w (5 + 32 * a2 + 2 + a3)) := hT.2.2.2.2.2.2.1 (5 + 32 * a2 + 2 + a3)
          refine lv_istore (lv' := [(8, .int (iI (w (5 + 32 * a2 + 2 + a3)))), (7, .int (iI (5 + 32 * a2 + 2 + a3))), (6, .int (iI (bI (((tw_isPerson a1) && ((tw_isDocument w a2) && (tw_isPerson a3))) && ((tw_lies a4 0 2) && (!(tw_owns w a3 a2))))))), (5, .int (iI (bI ((tw_isPerson a1) && ((tw_isDocument w a2) && (tw_isPerson a3)))))), (0, .ref t.1), (1, .int (iI a1)), (2, .int (iI a2)), (3, .int (iI a3)), (4, .int (iI a4))]) hx hb dX4_grant_109 hl (by decide) rfl (fun ls hl => ?_)
          refine lv_aload_n hx hb dX4_grant_111 rfl (lv_at hl 4 rfl) ?_
          refine z_get (k := 0) hx hb hts in_X4 hown hK hT.1 rfl (by decide) q2331 rfl (v := .ref t.2.1) rfl dX4_grant_112 ?_
          refine lv_iload hx hb dX4_grant_115 (lv_at hl 1 rfl) ?_
          refine lv_iload hx hb dX4_grant_117 (lv_at hl 8 rfl) ?_
          refine zt_st (i := 5 + 32 * a2 + 2 + a3) (x := a4) hx hb hK hT hTA hS ⟨by omega, by omega⟩ (by first | with_reducible assumption | omega | exact ⟨by omega, by omega⟩) dX4_grant_119 (fun H locs hT hS => ?_)
          refine lv_aload_n hx hb dX4_grant_120 rfl (lv_at hl 4 rfl) ?_
          refine lv_iconst (v := iI 3) hx hb dX4_grant_121 rfl ?_
          refine lv_iload_n hx hb dX4_grant_122 rfl (lv_at hl 5 rfl) ?_
          refine lv_iload_n hx hb dX4_grant_123 rfl (lv_at hl 6 rfl) ?_
          refine lv_iload_n hx hb dX4_grant_124 rfl (lv_at hl 7 rfl) ?_
          refine lv_iload hx hb dX4_grant_125 (lv_at hl 8 rfl) ?_
          refine lv_iconst (v := iI 0) hx hb dX4_grant_127 rfl ?_
          refine z_callmv (P := (fun H1 => zT G t (zup w (5 + 32 * a2 + 2 + a3) a4) kp (kL rd 0 ev lg 3 a1 a2 a3 a4 0) (kH rd 0 ev hr ((zup w (5 + 32 * a2 + 2 + a3) a4) 0)) (kE rd 0 ev) rd (tw_ok3 ((tw_isPerson a1) && ((tw_isDocument w a2) && (tw_isPerson a3))) (((tw_isPerson a1) && ((tw_isDocument w a2) && (tw_isPerson a3))) && ((tw_lies a4 0 2) && (!(tw_owns w a3 a2)))) ((((tw_isPerson a1) && ((tw_isDocument w a2) && (tw_isPerson a3))) && ((tw_lies a4 0 2) && (!(tw_owns w a3 a2)))) && (tw_owns w a1 a2))) H1)) (vx_runV (As := [.int (iI 3), .int (iI a1), .int (iI a2), .int (iI a3), .int (iI a4), .int (iI 0)]) (rest := []) ⟨hx, hb, hml, hown, hts⟩ (tc_keep l hT (k0 := 3) (a1 := a1) (a2 := a2) (a3 := a3) (a4 := a4) (a5 := 0) (by first | with_reducible assumption | omega | exact ⟨by omega, by omega⟩ | omega) (by first | with_reducible assumption | omega | exact ⟨by omega, by omega⟩ | omega) (by first | with_reducible assumption | omega | exact ⟨by omega, by omega⟩ | omega) (by first | with_reducible assumption | omega | exact ⟨by omega, by omega⟩ | omega) (by first | with_reducible assumption | omega | exact ⟨by omega, by omega⟩ | omega) (by first | with_reducible assumption | omega | exact ⟨by omega, by omega⟩ | omega) (by first | with_reducible assumption | omega | exact ⟨by omega, by omega⟩ | omega)) (cwV 6 hts (lw_V q2376 q2378 qs13 q49 q2379) rfl rfl rfl hd_X4_keep ⟨Nat.le_of_ble_eq_true rfl, Nat.le_of_ble_eq_true rfl⟩) (z_preV hK hS (zTw_le hTA hAn hS) hT.1 rfl rfl) rfl rfl hl.1 rfl (lv_room (Nat.le_of_ble_eq_true rfl)) dX4_grant_128 ⟨Nat.le_of_ble_eq_true rfl, Nat.le_of_ble_eq_true rfl⟩) hS (zTw_le hTA hAn hS) rfl rfl (fun H locs hT hS => ?_)
          refine lv_iload hx hb dX4_grant_131 (lv_at hl 0 rfl) ?_
          exact z_iret hx hb hret rfl hlocks hS (by have hc : tC_grant w a1 a2 a3 a4 = 0 := (by unfold tC_grant; simp only [tw_ok3_0]; first | assumption | (simp_all; done)); exact z_okend hc (by first | rfl | (simp [tW_grant, zup]; done)) hT) (Nat.le_of_ble_eq_true rfl) (Nat.le_of_ble_eq_true rfl) dX4_grant_133
        · refine lv_iconst (v := iI 0) hx hb dX4_grant_90 rfl ?_
          exact z_iret hx hb hret rfl hlocks hS (by have hc : ¬ tC_grant w a1 a2 a3 a4 = 0 := (by unfold tC_grant; simp only [tw_ok3_0]; first | (simp_all; done) | assumption); exact z_noend hc hT) (Nat.le_of_ble_eq_true rfl) (Nat.le_of_ble_eq_true rfl) dX4_grant_91
def tC_checkOut (w : Int → Int) (a1 a2 a3 : Int) : Int := tw_ok3 ((tw_isPerson a1) && (tw_isBranch w a2 a3)) (((tw_isPerson a1) && (tw_isBranch w a2 a3)) && ((tw_writes w a1 a2) && (decide (tw_left w a2 a3 = 0)))) true
def tW_checkOut (w : Int → Int) (a1 a2 a3 : Int) : Int → Int := tw_cp (zup (zup (zup w (5 + 32 * a2 + 8 + 8 * a3 + 1) (a1 + 1)) (5 + 32 * a2 + 8 + 8 * a3 + 2) (w 0)) (5 + 32 * a2 + 8 + 8 * a3 + 3) (tw_newestOf w a2 a3)) (5 + 32 * a2 + 8 + 8 * a3) (261 + 9 * tw_newestOf w a2 a3 + 4) 4
def tA_checkOut (w : Int → Int) (a1 a2 a3 : Int) : Int := tw_newestOf w a2 a3
theorem hn_X4_checkOut : yX4_checkOut.cls ≠ "java/lang/invoke/MethodHandle" ∧ yX4_checkOut.cls ≠ "java/lang/invoke/VarHandle" ∧ (parseMethodDescriptor yX4_checkOut.desc).map (fun d => d.parameters.length) = some 3 := by decide +kernel
theorem hd_X4_checkOut : yX4_checkOut.cls = "CheckoutDeskModel" ∧ yX4_checkOut.cls ≠ "java/lang/invoke/MethodHandle" ∧ yX4_checkOut.cls ≠ "java/lang/invoke/VarHandle" ∧ (parseMethodDescriptor yX4_checkOut.desc).map (fun d => d.parameters.length) = some 3 := ⟨rfl, hn_X4_checkOut⟩
abbrev rm_X4_checkOut : Room := { frames := 4, cells := 0, slots := 0, locals := 84 }
set_option maxHeartbeats 1000000 in
theorem tc_checkOut (l : Launch) {G : zG} {t : zTau} {w kp lg hr : Int → Int} {ev rd th : Int} {H0 : Heap} (hT : zT G t w kp lg hr ev rd th H0) {a1 a2 a3 : Int} (ha1 : inR a1) (ha2 : inR a2) (ha3 : inR a3) {n_ : Int} (hI : tInv n_ w) (hn_ : n_ < 2000) (hev2 : rd = 0 → ev < 2000) : zM l yX4_checkOut (ws_ yX4_checkOut cX4_checkOut 8 (some .int)) rm_X4_checkOut G (zTw t H0) [.ref t.1, .int (iI a1), .int (iI a2), .int (iI a3)] H0 (fun r H1 => r = some (.int (iI (kA (tC_checkOut w a1 a2 a3) (tA_checkOut w a1 a2 a3)))) ∧ zT G t (kW (tC_checkOut w a1 a2 a3) w (tW_checkOut w a1 a2 a3)) kp (kL rd (tC_checkOut w a1 a2 a3) ev lg 4 a1 a2 a3 0 0) (kH rd (tC_checkOut w a1 a2 a3) ev hr (tW_checkOut w a1 a2 a3 0)) (kE rd (tC_checkOut w a1 a2 a3) ev) rd (tC_checkOut w a1 a2 a3) H1) (fun _ => False) := by
  refine z_enter (by decide +kernel) (Nat.le_of_ble_eq_true rfl) ?_
  intro p e s m args below meth c ls hx hb hret hml hown hts hlocks htab hnm hK hH hl
  subst hH
  have hAn : ∀ q, s.heap.size ≤ q → zTw t s.heap q := fun _ h => Or.inr h
  have hTA : ∀ q, zTA t q → zTw t s.heap q := fun _ h => Or.inl h
  have hS : va_S (zTw t s.heap) s.heap s.heap [] := va_S.rf
  have hl : lv_has ls 8 [(0, .ref t.1), (1, .int (iI a1)), (2, .int (iI a2)), (3, .int (iI a3))] := hl
  have hrd := hT.2.2.2.2.2.2.2.2.2.2.2
  have hev := hT.2.2.2.2.2.2.2.2.2.2.1
  have hwR := hT.2.2.2.2.2.2.1
  obtain ⟨hD, hV, hL, hB, hVd, hLk, hClk, hDoc, hBr, hVer, hLnk, hNew, hFr⟩ := hI
  refine lv_iload_n hx hb dX4_checkOut_0 rfl (lv_at hl 1 rfl) ?_
  refine z_callp (vx_runS (As := [.int (iI a1)]) (rest := []) ⟨hx, hb, hml, hown, hts⟩ (tc_isPerson l (p_ := a1) (by first | with_reducible assumption | omega | exact ⟨by omega, by omega⟩ | omega)) (va_cwS 1 hts (lw_S q2392 q2393 q49 q2394) rfl rfl rfl hn_X4_isPerson ⟨Nat.le_of_ble_eq_true rfl, Nat.le_of_ble_eq_true rfl⟩) (z_preS hK hS (zN_le hAn hS)) rfl rfl hl.1 rfl (lv_room (Nat.le_of_ble_eq_true rfl)) dX4_checkOut_1 ⟨Nat.le_of_ble_eq_true rfl, Nat.le_of_ble_eq_true rfl⟩) hS (zN_le hAn hS) rfl rfl (fun locs hS => ?_)
  refine z_join (pc2 := 21) (nL := 8) (lv := [(0, .ref t.1), (1, .int (iI a1)), (2, .int (iI a2)), (3, .int (iI a3))]) (st2 := [.int (iI (bI ((tw_isPerson a1) && (tw_isBranch w a2 a3))))]) hS (fun J_1 => ?_) (fun locs ls hS hl => ?_)
  · refine z_ifb_eq (b := tw_isPerson a1) (tgt := 20) hx hb dX4_checkOut_4 (by decide) (fun c_2 => ?_) (fun c_2 => ?_)
    · refine lv_iconst (v := iI 0) hx hb dX4_checkOut_20 rfl ?_
      refine z_top (x := 0) (y := bI ((tw_isPerson a1) && (tw_isBranch w a2 a3))) (by simp [bI, c_2]) ?_
      exact J_1 _ ls hS (lv_sub hl [0, 1, 2, 3] rfl)
    · refine lv_aload_n hx hb dX4_checkOut_7 rfl (lv_at hl 0 rfl) ?_
      refine lv_iload_n hx hb dX4_checkOut_8 rfl (lv_at hl 2 rfl) ?_
      refine lv_iload_n hx hb dX4_checkOut_9 rfl (lv_at hl 3 rfl) ?_
      refine z_callp (vx_runV (As := [.int (iI a2), .int (iI a3)]) (rest := []) ⟨hx, hb, hml, hown, hts⟩ (tc_isBranch l hT (d := a2) (b := a3) (by first | with_reducible assumption | omega | exact ⟨by omega, by omega⟩ | omega) (by first | with_reducible assumption | omega | exact ⟨by omega, by omega⟩ | omega) (by first | with_reducible assumption | omega | exact ⟨by omega, by omega⟩ | omega) (by first | with_reducible assumption | omega | exact ⟨by omega, by omega⟩ | omega)) (cwV 2 hts (lw_V q2424 q2426 qs18 q49 q2427) rfl rfl rfl hd_X4_isBranch ⟨Nat.le_of_ble_eq_true rfl, Nat.le_of_ble_eq_true rfl⟩) (z_preV hK hS (zN_le hAn hS) hT.1 rfl rfl) rfl rfl hl.1 rfl (lv_room (Nat.le_of_ble_eq_true rfl)) dX4_checkOut_10 ⟨Nat.le_of_ble_eq_true rfl, Nat.le_of_ble_eq_true rfl⟩) hS (zN_le hAn hS) rfl rfl (fun locs hS => ?_)
      refine z_ifb_eq (b := tw_isBranch w a2 a3) (tgt := 20) hx hb dX4_checkOut_13 (by decide) (fun c_3 => ?_) (fun c_3 => ?_)
      · refine lv_iconst (v := iI 0) hx hb dX4_checkOut_20 rfl ?_
        refine z_top (x := 0) (y := bI ((tw_isPerson a1) && (tw_isBranch w a2 a3))) (by simp [bI, c_2, c_3]) ?_
        exact J_1 _ ls hS (lv_sub hl [0, 1, 2, 3] rfl)
      · refine lv_iconst (v := iI 1) hx hb dX4_checkOut_16 rfl ?_
        refine lv_goto (tgt := 21) hx hb dX4_checkOut_17 (by decide) ?_
        refine z_top (x := 1) (y := bI ((tw_isPerson a1) && (tw_isBranch w a2 a3))) (by simp [bI, c_2, c_3]) ?_
        exact J_1 _ ls hS (lv_sub hl [0, 1, 2, 3] rfl)
  · refine lv_istore (lv' := [(4, .int (iI (bI ((tw_isPerson a1) && (tw_isBranch w a2 a3))))), (0, .ref t.1), (1, .int (iI a1)), (2, .int (iI a2)), (3, .int (iI a3))]) hx hb dX4_checkOut_21 hl (by decide) rfl (fun ls hl => ?_)
    refine lv_aload_n hx hb dX4_checkOut_23 rfl (lv_at hl 1 rfl) ?_
    refine lv_iload hx hb dX4_checkOut_24 (lv_at hl 0 rfl) ?_
    refine lv_iload hx hb dX4_checkOut_26 (lv_at hl 0 rfl) ?_
    refine z_join (pc2 := 54) (nL := 8) (lv := [(4, .int (iI (bI ((tw_isPerson a1) && (tw_isBranch w a2 a3))))), (0, .ref t.1), (1, .int (iI a1)), (2, .int (iI a2)), (3, .int (iI a3))]) (st2 := [.int (iI (bI (((tw_isPerson a1) && (tw_isBranch w a2 a3)) && ((tw_writes w a1 a2) && (decide (tw_left w a2 a3 = 0)))))), .int (iI (bI ((tw_isPerson a1) && (tw_isBranch w a2 a3)))), .ref t.1]) hS (fun J_4 => ?_) (fun locs ls hS hl => ?_)
    · refine z_ifb_eq (b := (tw_isPerson a1) && (tw_isBranch w a2 a3)) (tgt := 53) hx hb dX4_checkOut_28 (by decide) (fun c_5 => ?_) (fun c_5 => ?_)
      · refine lv_iconst (v := iI 0) hx hb dX4_checkOut_53 rfl ?_
        refine z_top (x := 0) (y := bI (((tw_isPerson a1) && (tw_isBranch w a2 a3)) && ((tw_writes w a1 a2) && (decide (tw_left w a2 a3 = 0))))) (by simp [bI, c_5]) ?_
        exact J_4 _ ls hS (lv_sub hl [0, 1, 2, 3, 4] rfl)
      · obtain ⟨hp, hd, hbx⟩ := tw_are3 c_5
        have hb3 := hB _ hd.1 hd.2
        obtain ⟨hho, hgv, hcp, hog, hog2, hcv⟩ := hBr _ _ hd.1 hd.2 hbx.1 hbx.2
        have hgl : inR (w (5 + 32 * a2 + 8 + 8 * a3 + 2) + w 1 - w 0) := ⟨by omega, by omega⟩
        have hnw := hNew _ _ hd.1 hd.2 hbx.1 hbx.2
        have hnR := tw_newestOf_R (d := a2) (b := a3) hV
        obtain ⟨hvb, hvj, hvn, hvt, hvv⟩ := hVer _ hnw hnR.2
        have hdoc := hDoc _ hd.1 hd.2
        refine lv_aload_n hx hb dX4_checkOut_31 rfl (lv_at hl 1 rfl) ?_
        refine lv_iload_n hx hb dX4_checkOut_32 rfl (lv_at hl 2 rfl) ?_
        refine lv_iload_n hx hb dX4_checkOut_33 rfl (lv_at hl 3 rfl) ?_
        refine z_callp (vx_runV (As := [.int (iI a1), .int (iI a2)]) (rest := [.int (iI (bI ((tw_isPerson a1) && (tw_isBranch w a2 a3)))), .ref t.1]) ⟨hx, hb, hml, hown, hts⟩ (tc_writes l hT (p_ := a1) (d := a2) (by first | with_reducible assumption | omega | exact ⟨by omega, by omega⟩ | omega) (by first | with_reducible assumption | omega | exact ⟨by omega, by omega⟩ | omega)) (cwV 2 hts (lw_V q2428 q2430 qs19 q49 q2431) rfl rfl rfl hd_X4_writes ⟨Nat.le_of_ble_eq_true rfl, Nat.le_of_ble_eq_true rfl⟩) (z_preV hK hS (zN_le hAn hS) hT.1 rfl rfl) rfl rfl hl.1 rfl (lv_room (Nat.le_of_ble_eq_true rfl)) dX4_checkOut_34 ⟨Nat.le_of_ble_eq_true rfl, Nat.le_of_ble_eq_true rfl⟩) hS (zN_le hAn hS) rfl rfl (fun locs hS => ?_)
        refine z_ifb_eq (b := tw_writes w a1 a2) (tgt := 53) hx hb dX4_checkOut_37 (by decide) (fun c_6 => ?_) (fun c_6 => ?_)
        · refine lv_iconst (v := iI 0) hx hb dX4_checkOut_53 rfl ?_
          refine z_top (x := 0) (y := bI (((tw_isPerson a1) && (tw_isBranch w a2 a3)) && ((tw_writes w a1 a2) && (decide (tw_left w a2 a3 = 0))))) (by simp [bI, c_5, c_6]) ?_
          exact J_4 _ ls hS (lv_sub hl [0, 1, 2, 3, 4] rfl)
        · refine lv_aload_n hx hb dX4_checkOut_40 rfl (lv_at hl 1 rfl) ?_
          refine lv_iload_n hx hb dX4_checkOut_41 rfl (lv_at hl 3 rfl) ?_
          refine lv_iload_n hx hb dX4_checkOut_42 rfl (lv_at hl 4 rfl) ?_
          refine z_callp (vx_runV (As := [.int (iI a2), .int (iI a3)]) (rest := [.int (iI (bI ((tw_isPerson a1) && (tw_isBranch w a2 a3)))), .ref t.1]) ⟨hx, hb, hml, hown, hts⟩ (tc_left l hT (d := a2) (b := a3) (by first | with_reducible assumption | omega | exact ⟨by omega, by omega⟩ | omega) (by first | with_reducible assumption | omega | exact ⟨by omega, by omega⟩ | omega) (by first | with_reducible assumption | omega | exact ⟨by omega, by omega⟩ | omega)) (cwV 2 hts (lw_V q2436 q2438 qs21 q49 q2439) rfl rfl rfl hd_X4_left ⟨Nat.le_of_ble_eq_true rfl, Nat.le_of_ble_eq_true rfl⟩) (z_preV hK hS (zN_le hAn hS) hT.1 rfl rfl) rfl rfl hl.1 rfl (lv_room (Nat.le_of_ble_eq_true rfl)) dX4_checkOut_43 ⟨Nat.le_of_ble_eq_true rfl, Nat.le_of_ble_eq_true rfl⟩) hS (zN_le hAn hS) rfl rfl (fun locs hS => ?_)
          refine z_if_ne (x := tw_left w a2 a3) (tgt := 53) hx hb (tw_left_R (by with_reducible assumption)) dX4_checkOut_46 (by decide) (fun c_7 => ?_) (fun c_7 => ?_)
          · refine lv_iconst (v := iI 0) hx hb dX4_checkOut_53 rfl ?_
            refine z_top (x := 0) (y := bI (((tw_isPerson a1) && (tw_isBranch w a2 a3)) && ((tw_writes w a1 a2) && (decide (tw_left w a2 a3 = 0))))) (by simp [bI, c_5, c_6, c_7]) ?_
            exact J_4 _ ls hS (lv_sub hl [0, 1, 2, 3, 4] rfl)
          · refine lv_iconst (v := iI 1) hx hb dX4_checkOut_49 rfl ?_
            refine lv_goto (tgt := 54) hx hb dX4_checkOut_50 (by decide) ?_
            refine z_top (x := 1) (y := bI (((tw_isPerson a1) && (tw_isBranch w a2 a3)) && ((tw_writes w a1 a2) && (decide (tw_left w a2 a3 = 0))))) (by simp [bI, c_5, c_6, c_7]) ?_
            exact J_4 _ ls hS (lv_sub hl [0, 1, 2, 3, 4] rfl)
    · refine z_callm (v := .int (iI (bI (((tw_isPerson a1) && (tw_isBranch w a2 a3)) && (((tw_isPerson a1) && (tw_isBranch w a2 a3)) && ((tw_writes w a1 a2) && (decide (tw_left w a2 a3 = 0)))))))) (P := (fun H1 => zT G t w kp lg hr ev rd (tw_ok3 ((tw_isPerson a1) && (tw_isBranch w a2 a3)) (((tw_isPerson a1) && (tw_isBranch w a2 a3)) && ((tw_writes w a1 a2) && (decide (tw_left w a2 a3 = 0)))) true) H1)) (vx_runV (As := [.int (iI (bI ((tw_isPerson a1) && (tw_isBranch w a2 a3)))), .int (iI (bI (((tw_isPerson a1) && (tw_isBranch w a2 a3)) && ((tw_writes w a1 a2) && (decide (tw_left w a2 a3 = 0))))))]) (rest := []) ⟨hx, hb, hml, hown, hts⟩ (tc_ok l hT (ba := (tw_isPerson a1) && (tw_isBranch w a2 a3)) (bb := ((tw_isPerson a1) && (tw_isBranch w a2 a3)) && ((tw_writes w a1 a2) && (decide (tw_left w a2 a3 = 0))))) (cwV 2 hts (lw_V q2368 q2370 qs11 q49 q2371) rfl rfl rfl hd_X4_ok ⟨Nat.le_of_ble_eq_true rfl, Nat.le_of_ble_eq_true rfl⟩) (z_preV hK hS (zTw_le hTA hAn hS) hT.1 rfl rfl) rfl rfl hl.1 rfl (lv_room (Nat.le_of_ble_eq_true rfl)) dX4_checkOut_54 ⟨Nat.le_of_ble_eq_true rfl, Nat.le_of_ble_eq_true rfl⟩) hS (zTw_le hTA hAn hS) rfl rfl (fun H locs hT hS => ?_)
      refine z_ifb_ne (b := ((tw_isPerson a1) && (tw_isBranch w a2 a3)) && (((tw_isPerson a1) && (tw_isBranch w a2 a3)) && ((tw_writes w a1 a2) && (decide (tw_left w a2 a3 = 0))))) (tgt := 62) hx hb dX4_checkOut_57 (by decide) (fun c_8 => ?_) (fun c_8 => ?_)
      · have hc := c_8
        obtain ⟨c_are, -⟩ := Bool.and_eq_true_iff.mp hc
        obtain ⟨hp, hd, hbx⟩ := tw_are3 c_are
        have hb3 := hB _ hd.1 hd.2
        obtain ⟨hho, hgv, hcp, hog, hog2, hcv⟩ := hBr _ _ hd.1 hd.2 hbx.1 hbx.2
        have hgl : inR (w (5 + 32 * a2 + 8 + 8 * a3 + 2) + w 1 - w 0) := ⟨by omega, by omega⟩
        have hnw := hNew _ _ hd.1 hd.2 hbx.1 hbx.2
        have hnR := tw_newestOf_R (d := a2) (b := a3) hV
        obtain ⟨hvb, hvj, hvn, hvt, hvv⟩ := hVer _ hnw hnR.2
        have hdoc := hDoc _ hd.1 hd.2
        simp only [Bool.and_eq_true, Bool.or_eq_true, decide_eq_true_eq, Bool.not_eq_eq_eq_not, Bool.not_true, decide_eq_false_iff_not, Bool.not_false] at hc
        refine lv_iload_n hx hb dX4_checkOut_62 rfl (lv_at hl 3 rfl) ?_
        refine lv_iload_n hx hb dX4_checkOut_63 rfl (lv_at hl 4 rfl) ?_
        refine z_callp (vx_runS (As := [.int (iI a2), .int (iI a3)]) (rest := []) ⟨hx, hb, hml, hown, hts⟩ (tc_place l (d := a2) (b := a3)) (va_cwS 2 hts (lw_S q2398 q2399 q49 q2400) rfl rfl rfl hn_X4_place ⟨Nat.le_of_ble_eq_true rfl, Nat.le_of_ble_eq_true rfl⟩) (z_preS hK hS (zN_le hAn hS)) rfl rfl hl.1 rfl (lv_room (Nat.le_of_ble_eq_true rfl)) dX4_checkOut_64 ⟨Nat.le_of_ble_eq_true rfl, Nat.le_of_ble_eq_true rfl⟩) hS (zN_le hAn hS) rfl rfl (fun locs hS => ?_)
        refine lv_istore (lv' := [(5, .int (iI (5 + 32 * a2 + 8 + 8 * a3))), (4, .int (iI (bI ((tw_isPerson a1) && (tw_isBranch w a2 a3))))), (0, .ref t.1), (1, .int (iI a1)), (2, .int (iI a2)), (3, .int (iI a3))]) hx hb dX4_checkOut_67 hl (by decide) rfl (fun ls hl => ?_)
        refine lv_aload_n hx hb dX4_checkOut_69 rfl (lv_at hl 2 rfl) ?_
        refine lv_iload_n hx hb dX4_checkOut_70 rfl (lv_at hl 4 rfl) ?_
        refine lv_iload_n hx hb dX4_checkOut_71 rfl (lv_at hl 5 rfl) ?_
        refine z_callp (vx_runV (As := [.int (iI a2), .int (iI a3)]) (rest := []) ⟨hx, hb, hml, hown, hts⟩ (tc_newestOf l hT (d := a2) (b := a3) (by first | with_reducible assumption | omega | exact ⟨by omega, by omega⟩ | omega) (by first | with_reducible assumption | omega | exact ⟨by omega, by omega⟩ | omega) (by first | with_reducible assumption | omega | exact ⟨by omega, by omega⟩ | omega)) (cwV 2 hts (lw_V q2441 q2443 qs22 q49 q2444) rfl rfl rfl hd_X4_newestOf ⟨Nat.le_of_ble_eq_true rfl, Nat.le_of_ble_eq_true rfl⟩) (z_preV hK hS (zN_le hAn hS) hT.1 rfl rfl) rfl rfl hl.1 rfl (lv_room (Nat.le_of_ble_eq_true rfl)) dX4_checkOut_72 ⟨Nat.le_of_ble_eq_true rfl, Nat.le_of_ble_eq_true rfl⟩) hS (zN_le hAn hS) rfl rfl (fun locs hS => ?_)
        refine lv_istore (lv' := [(6, .int (iI (tw_newestOf w a2 a3))), (5, .int (iI (5 + 32 * a2 + 8 + 8 * a3))), (4, .int (iI (bI ((tw_isPerson a1) && (tw_isBranch w a2 a3))))), (0, .ref t.1), (1, .int (iI a1)), (2, .int (iI a2)), (3, .int (iI a3))]) hx hb dX4_checkOut_75 hl (by decide) rfl (fun ls hl => ?_)
        refine lv_aload_n hx hb dX4_checkOut_77 rfl (lv_at hl 3 rfl) ?_
        refine z_get (k := 0) hx hb hts in_X4 hown hK hT.1 rfl (by decide) q2331 rfl (v := .ref t.2.1) rfl dX4_checkOut_78 ?_
        refine lv_iload hx hb dX4_checkOut_81 (lv_at hl 1 rfl) ?_
        refine lv_iconst (v := iI 1) hx hb dX4_checkOut_83 rfl ?_
        refine z_iadd (x := 5 + 32 * a2 + 8 + 8 * a3) (y := 1) hx hb dX4_checkOut_84 ?_
        refine lv_iload_n hx hb dX4_checkOut_85 rfl (lv_at hl 4 rfl) ?_
        refine lv_iconst (v := iI 1) hx hb dX4_checkOut_86 rfl ?_
        refine z_iadd (x := a1) (y := 1) hx hb dX4_checkOut_87 ?_
        refine zt_st (i := 5 + 32 * a2 + 8 + 8 * a3 + 1) (x := a1 + 1) hx hb hK hT hTA hS ⟨by omega, by omega⟩ (by first | with_reducible assumption | omega | exact ⟨by omega, by omega⟩) dX4_checkOut_88 (fun H locs hT hS => ?_)
        refine lv_aload_n hx hb dX4_checkOut_89 rfl (lv_at hl 3 rfl) ?_
        refine z_get (k := 0) hx hb hts in_X4 hown hK hT.1 rfl (by decide) q2331 rfl (v := .ref t.2.1) rfl dX4_checkOut_90 ?_
        refine lv_iload hx hb dX4_checkOut_93 (lv_at hl 1 rfl) ?_
        refine lv_iconst (v := iI 2) hx hb dX4_checkOut_95 rfl ?_
        refine z_iadd (x := 5 + 32 * a2 + 8 + 8 * a3) (y := 2) hx hb dX4_checkOut_96 ?_
        refine lv_aload_n hx hb dX4_checkOut_97 rfl (lv_at hl 3 rfl) ?_
        refine z_get (k := 0) hx hb hts in_X4 hown hK hT.1 rfl (by decide) q2331 rfl (v := .ref t.2.1) rfl dX4_checkOut_98 ?_
        refine lv_iconst (v := iI 0) hx hb dX4_checkOut_101 rfl ?_
        refine z_ildZ (i := 0) (f := zup w (5 + 32 * a2 + 8 + 8 * a3 + 1) (a1 + 1)) hx hb hK hT.2.1 ⟨by omega, by omega⟩ (by decide) dX4_checkOut_102 ?_
        refine z_top (x := (zup w (5 + 32 * a2 + 8 + 8 * a3 + 1) (a1 + 1)) 0) (y := w 0) (by rw [zup_n (by omega)]) ?_
        have r_9 : inR (w 0) := (by first | exact hwR _ | exact hT.2.2.2.2.2.2.1 0)
        refine zt_st (i := 5 + 32 * a2 + 8 + 8 * a3 + 2) (x := w 0) hx hb hK hT hTA hS ⟨by omega, by omega⟩ (by first | with_reducible assumption | omega | exact ⟨by omega, by omega⟩) dX4_checkOut_103 (fun H locs hT hS => ?_)
        refine lv_aload_n hx hb dX4_checkOut_104 rfl (lv_at hl 3 rfl) ?_
        refine z_get (k := 0) hx hb hts in_X4 hown hK hT.1 rfl (by decide) q2331 rfl (v := .ref t.2.1) rfl dX4_checkOut_105 ?_
        refine lv_iload hx hb dX4_checkOut_108 (lv_at hl 1 rfl) ?_
        refine lv_iconst (v := iI 3) hx hb dX4_checkOut_110 rfl ?_
        refine z_iadd (x := 5 + 32 * a2 + 8 + 8 * a3) (y := 3) hx hb dX4_checkOut_111 ?_
        refine lv_iload hx hb dX4_checkOut_112 (lv_at hl 0 rfl) ?_
        refine zt_st (i := 5 + 32 * a2 + 8 + 8 * a3 + 3) (x := tw_newestOf w a2 a3) hx hb hK hT hTA hS ⟨by omega, by omega⟩ (tw_newestOf_inR (by with_reducible assumption)) dX4_checkOut_114 (fun H locs hT hS => ?_)
        refine lv_iconst (v := iI 0) hx hb dX4_checkOut_115 rfl ?_
        refine lv_istore (lv' := [(7, .int (iI 0)), (6, .int (iI (tw_newestOf w a2 a3))), (5, .int (iI (5 + 32 * a2 + 8 + 8 * a3))), (4, .int (iI (bI ((tw_isPerson a1) && (tw_isBranch w a2 a3))))), (0, .ref t.1), (1, .int (iI a1)), (2, .int (iI a2)), (3, .int (iI a3))]) hx hb dX4_checkOut_116 hl (by decide) rfl (fun ls hl => ?_)
        refine z_loopH (A := zTw t s.heap) (H0 := s.heap) (nL := 8) (hd := 118) (fun i_10 : Nat => [(7, .int (iI ((i_10 : Nat) : Int))), (6, .int (iI (tw_newestOf w a2 a3))), (5, .int (iI (5 + 32 * a2 + 8 + 8 * a3))), (4, .int (iI (bI ((tw_isPerson a1) && (tw_isBranch w a2 a3))))), (0, .ref t.1), (1, .int (iI a1)), (2, .int (iI a2)), (3, .int (iI a3))]) (fun (i_10 : Nat) (H : Heap) => (i_10 : Int) ≤ 4 ∧ zT G t (tw_cp (zup (zup (zup w (5 + 32 * a2 + 8 + 8 * a3 + 1) (a1 + 1)) (5 + 32 * a2 + 8 + 8 * a3 + 2) (w 0)) (5 + 32 * a2 + 8 + 8 * a3 + 3) (tw_newestOf w a2 a3)) (5 + 32 * a2 + 8 + 8 * a3) (261 + 9 * tw_newestOf w a2 a3 + 4) i_10) kp lg hr ev rd (tw_ok3 ((tw_isPerson a1) && (tw_isBranch w a2 a3)) (((tw_isPerson a1) && (tw_isBranch w a2 a3)) && ((tw_writes w a1 a2) && (decide (tw_left w a2 a3 = 0)))) true) H) (fun _ => 0) (fun _ => 0) (fun i_10 : Nat => (4 : Int).toNat - i_10) (fun i_10 H locs hi_10 hS ih_11 ls hl => ?_) 0 _ _ ?_ hS ls (z_lvren (lv_sub hl [0, 1, 2, 3, 4, 5, 6, 7] rfl) (by rfl))
        · have hl : lv_has ls 8 [(7, .int (iI ((i_10 : Nat) : Int))), (6, .int (iI (tw_newestOf w a2 a3))), (5, .int (iI (5 + 32 * a2 + 8 + 8 * a3))), (4, .int (iI (bI ((tw_isPerson a1) && (tw_isBranch w a2 a3))))), (0, .ref t.1), (1, .int (iI a1)), (2, .int (iI a2)), (3, .int (iI a3))] := hl
          obtain ⟨hi_10, hT⟩ : (i_10 : Int) ≤ 4 ∧ zT G t (tw_cp (zup (zup (zup w (5 + 32 * a2 + 8 + 8 * a3 + 1) (a1 + 1)) (5 + 32 * a2 + 8 + 8 * a3 + 2) (w 0)) (5 + 32 * a2 + 8 + 8 * a3 + 3) (tw_newestOf w a2 a3)) (5 + 32 * a2 + 8 + 8 * a3) (261 + 9 * tw_newestOf w a2 a3 + 4) i_10) kp lg hr ev rd (tw_ok3 ((tw_isPerson a1) && (tw_isBranch w a2 a3)) (((tw_isPerson a1) && (tw_isBranch w a2 a3)) && ((tw_writes w a1 a2) && (decide (tw_left w a2 a3 = 0)))) true) H := hi_10
          refine lv_iload hx hb dX4_checkOut_118 (lv_at hl 0 rfl) ?_
          refine lv_iconst (v := iI 4) hx hb dX4_checkOut_120 rfl ?_
          refine z_icmp_ge (x := ((i_10 : Nat) : Int)) (y := 4) (tgt := 157) hx hb (by first | with_reducible assumption | omega | exact ⟨by omega, by omega⟩) (by decide) dX4_checkOut_121 (by decide) (fun c_12 => ?_) (fun c_12 => ?_)
          · obtain rfl : i_10 = 4 := by omega
            refine lv_aload_n hx hb dX4_checkOut_157 rfl (lv_at hl 4 rfl) ?_
            refine lv_iconst (v := iI 4) hx hb dX4_checkOut_158 rfl ?_
            refine lv_iload_n hx hb dX4_checkOut_159 rfl (lv_at hl 5 rfl) ?_
            refine lv_iload_n hx hb dX4_checkOut_160 rfl (lv_at hl 6 rfl) ?_
            refine lv_iload_n hx hb dX4_checkOut_161 rfl (lv_at hl 7 rfl) ?_
            refine lv_iconst (v := iI 0) hx hb dX4_checkOut_162 rfl ?_
            refine lv_iconst (v := iI 0) hx hb dX4_checkOut_163 rfl ?_
            refine z_callmv (P := (fun H1 => zT G t (tw_cp (zup (zup (zup w (5 + 32 * a2 + 8 + 8 * a3 + 1) (a1 + 1)) (5 + 32 * a2 + 8 + 8 * a3 + 2) (w 0)) (5 + 32 * a2 + 8 + 8 * a3 + 3) (tw_newestOf w a2 a3)) (5 + 32 * a2 + 8 + 8 * a3) (261 + 9 * tw_newestOf w a2 a3 + 4) 4) kp (kL rd 0 ev lg 4 a1 a2 a3 0 0) (kH rd 0 ev hr ((tw_cp (zup (zup (zup w (5 + 32 * a2 + 8 + 8 * a3 + 1) (a1 + 1)) (5 + 32 * a2 + 8 + 8 * a3 + 2) (w 0)) (5 + 32 * a2 + 8 + 8 * a3 + 3) (tw_newestOf w a2 a3)) (5 + 32 * a2 + 8 + 8 * a3) (261 + 9 * tw_newestOf w a2 a3 + 4) 4) 0)) (kE rd 0 ev) rd (tw_ok3 ((tw_isPerson a1) && (tw_isBranch w a2 a3)) (((tw_isPerson a1) && (tw_isBranch w a2 a3)) && ((tw_writes w a1 a2) && (decide (tw_left w a2 a3 = 0)))) true) H1)) (vx_runV (As := [.int (iI 4), .int (iI a1), .int (iI a2), .int (iI a3), .int (iI 0), .int (iI 0)]) (rest := []) ⟨hx, hb, hml, hown, hts⟩ (tc_keep l hT (k0 := 4) (a1 := a1) (a2 := a2) (a3 := a3) (a4 := 0) (a5 := 0) (by first | with_reducible assumption | omega | exact ⟨by omega, by omega⟩ | omega) (by first | with_reducible assumption | omega | exact ⟨by omega, by omega⟩ | omega) (by first | with_reducible assumption | omega | exact ⟨by omega, by omega⟩ | omega) (by first | with_reducible assumption | omega | exact ⟨by omega, by omega⟩ | omega) (by first | with_reducible assumption | omega | exact ⟨by omega, by omega⟩ | omega) (by first | with_reducible assumption | omega | exact ⟨by omega, by omega⟩ | omega) (by first | with_reducible assumption | omega | exact ⟨by omega, by omega⟩ | omega)) (cwV 6 hts (lw_V q2376 q2378 qs13 q49 q2379) rfl rfl rfl hd_X4_keep ⟨Nat.le_of_ble_eq_true rfl, Nat.le_of_ble_eq_true rfl⟩) (z_preV hK hS (zTw_le hTA hAn hS) hT.1 rfl rfl) rfl rfl hl.1 rfl (lv_room (Nat.le_of_ble_eq_true rfl)) dX4_checkOut_164 ⟨Nat.le_of_ble_eq_true rfl, Nat.le_of_ble_eq_true rfl⟩) hS (zTw_le hTA hAn hS) rfl rfl (fun H locs hT hS => ?_)
            refine lv_iload hx hb dX4_checkOut_167 (lv_at hl 1 rfl) ?_
            exact z_iret hx hb hret rfl hlocks hS (by have hc : tC_checkOut w a1 a2 a3 = 0 := (by unfold tC_checkOut; simp only [tw_ok3_0]; first | assumption | (simp_all; done)); exact z_okend hc rfl hT) (Nat.le_of_ble_eq_true rfl) (Nat.le_of_ble_eq_true rfl) dX4_checkOut_169
          · refine lv_aload_n hx hb dX4_checkOut_124 rfl (lv_at hl 4 rfl) ?_
            refine z_get (k := 0) hx hb hts in_X4 hown hK hT.1 rfl (by decide) q2331 rfl (v := .ref t.2.1) rfl dX4_checkOut_125 ?_
            refine lv_iload hx hb dX4_checkOut_128 (lv_at hl 2 rfl) ?_
            refine lv_iconst (v := iI 4) hx hb dX4_checkOut_130 rfl ?_
            refine z_iadd (x := 5 + 32 * a2 + 8 + 8 * a3) (y := 4) hx hb dX4_checkOut_131 ?_
            refine lv_iload hx hb dX4_checkOut_132 (lv_at hl 0 rfl) ?_
            refine z_iadd (x := 5 + 32 * a2 + 8 + 8 * a3 + 4) (y := ((i_10 : Nat) : Int)) hx hb dX4_checkOut_134 ?_
            refine lv_aload_n hx hb dX4_checkOut_135 rfl (lv_at hl 4 rfl) ?_
            refine z_get (k := 0) hx hb hts in_X4 hown hK hT.1 rfl (by decide) q2331 rfl (v := .ref t.2.1) rfl dX4_checkOut_136 ?_
            refine lv_iload hx hb dX4_checkOut_139 (lv_at hl 1 rfl) ?_
            refine z_callp (vx_runS (As := [.int (iI (tw_newestOf w a2 a3))]) (rest := [.ref t.2.1, .int (iI (5 + 32 * a2 + 8 + 8 * a3 + 4 + ((i_10 : Nat) : Int))), .ref t.2.1]) ⟨hx, hb, hml, hown, hts⟩ (tc_ver l (v := tw_newestOf w a2 a3)) (va_cwS 1 hts (lw_S q2405 q2406 q49 q2407) rfl rfl rfl hn_X4_ver ⟨Nat.le_of_ble_eq_true rfl, Nat.le_of_ble_eq_true rfl⟩) (z_preS hK hS (zN_le hAn hS)) rfl rfl hl.1 rfl (lv_room (Nat.le_of_ble_eq_true rfl)) dX4_checkOut_141 ⟨Nat.le_of_ble_eq_true rfl, Nat.le_of_ble_eq_true rfl⟩) hS (zN_le hAn hS) rfl rfl (fun locs hS => ?_)
            refine lv_iconst (v := iI 4) hx hb dX4_checkOut_144 rfl ?_
            refine z_iadd (x := 261 + 9 * tw_newestOf w a2 a3) (y := 4) hx hb dX4_checkOut_145 ?_
            refine lv_iload hx hb dX4_checkOut_146 (lv_at hl 0 rfl) ?_
            refine z_iadd (x := 261 + 9 * tw_newestOf w a2 a3 + 4) (y := ((i_10 : Nat) : Int)) hx hb dX4_checkOut_148 ?_
            refine z_ildZ (i := 261 + 9 * tw_newestOf w a2 a3 + 4 + ((i_10 : Nat) : Int)) (f := tw_cp (zup (zup (zup w (5 + 32 * a2 + 8 + 8 * a3 + 1) (a1 + 1)) (5 + 32 * a2 + 8 + 8 * a3 + 2) (w 0)) (5 + 32 * a2 + 8 + 8 * a3 + 3) (tw_newestOf w a2 a3)) (5 + 32 * a2 + 8 + 8 * a3) (261 + 9 * tw_newestOf w a2 a3 + 4) i_10) hx hb hK hT.2.1 ⟨by omega, by omega⟩ (by decide) dX4_checkOut_149 ?_
            have r_13 : inR ((tw_cp (zup (zup (zup w (5 + 32 * a2 + 8 + 8 * a3 + 1) (a1 + 1)) (5 + 32 * a2 + 8 + 8 * a3 + 2) (w 0)) (5 + 32 * a2 + 8 + 8 * a3 + 3) (tw_newestOf w a2 a3)) (5 + 32 * a2 + 8 + 8 * a3) (261 + 9 * tw_newestOf w a2 a3 + 4) i_10) (261 + 9 * tw_newestOf w a2 a3 + 4 + ((i_10 : Nat) : Int))) := hT.2.2.2.2.2.2.1 (261 + 9 * tw_newestOf w a2 a3 + 4 + ((i_10 : Nat) : Int))
            refine zt_st (i := 5 + 32 * a2 + 8 + 8 * a3 + 4 + ((i_10 : Nat) : Int)) (x := (tw_cp (zup (zup (zup w (5 + 32 * a2 + 8 + 8 * a3 + 1) (a1 + 1)) (5 + 32 * a2 + 8 + 8 * a3 + 2) (w 0)) (5 + 32 * a2 + 8 + 8 * a3 + 3) (tw_newestOf w a2 a3)) (5 + 32 * a2 + 8 + 8 * a3) (261 + 9 * tw_newestOf w a2 a3 + 4) i_10) (261 + 9 * tw_newestOf w a2 a3 + 4 + ((i_10 : Nat) : Int))) hx hb hK hT hTA hS ⟨by omega, by omega⟩ (by first | with_reducible assumption | omega | exact ⟨by omega, by omega⟩) dX4_checkOut_150 (fun H locs hT hS => ?_)
            refine lv_iinc (v := iI (((i_10 : Nat) : Int) + 1)) (lv' := [(7, .int (iI (((i_10 : Nat) : Int) + 1))), (6, .int (iI (tw_newestOf w a2 a3))), (5, .int (iI (5 + 32 * a2 + 8 + 8 * a3))), (4, .int (iI (bI ((tw_isPerson a1) && (tw_isBranch w a2 a3))))), (0, .ref t.1), (1, .int (iI a1)), (2, .int (iI a2)), (3, .int (iI a3))]) hx hb dX4_checkOut_151 hl (k := 0) rfl (iI_add _ _) (by decide) rfl (fun ls hl => ?_)
            refine lv_goto (tgt := 118) hx hb dX4_checkOut_154 (by decide) ?_
            exact ih_11 (i_10 + 1) _ _ ⟨by omega, hT⟩ hS (by omega) ls (z_lvren (lv_sub hl [0, 1, 2, 3, 4, 5, 6, 7] rfl) (by first | rfl | simp))
        · exact ⟨by omega, hT⟩
      · refine lv_iconst (v := iI 0) hx hb dX4_checkOut_60 rfl ?_
        exact z_iret hx hb hret rfl hlocks hS (by have hc : ¬ tC_checkOut w a1 a2 a3 = 0 := (by unfold tC_checkOut; simp only [tw_ok3_0]; first | (simp_all; done) | assumption); exact z_noend hc hT) (Nat.le_of_ble_eq_true rfl) (Nat.le_of_ble_eq_true rfl) dX4_checkOut_61
def tC_edit (w : Int → Int) (a1 a2 a3 a4 a5 : Int) : Int := tw_ok3 ((tw_isPerson a1) && (tw_isBranch w a2 a3)) ((tw_lies a4 0 3) && (tw_lies a5 0 (if a4 = 3 then 9999 else 99))) (((tw_isPerson a1) && (tw_isBranch w a2 a3)) && (tw_holds w a1 a2 a3))
def tW_edit (w : Int → Int) (a1 a2 a3 a4 a5 : Int) : Int → Int := zup w (5 + 32 * a2 + 8 + 8 * a3 + 4 + a4) a5
def tA_edit (w : Int → Int) (a1 a2 a3 a4 a5 : Int) : Int := w (5 + 32 * a2 + 8 + 8 * a3 + 4 + a4)
theorem hn_X4_edit : yX4_edit.cls ≠ "java/lang/invoke/MethodHandle" ∧ yX4_edit.cls ≠ "java/lang/invoke/VarHandle" ∧ (parseMethodDescriptor yX4_edit.desc).map (fun d => d.parameters.length) = some 5 := by decide +kernel
theorem hd_X4_edit : yX4_edit.cls = "CheckoutDeskModel" ∧ yX4_edit.cls ≠ "java/lang/invoke/MethodHandle" ∧ yX4_edit.cls ≠ "java/lang/invoke/VarHandle" ∧ (parseMethodDescriptor yX4_edit.desc).map (fun d => d.parameters.length) = some 5 := ⟨rfl, hn_X4_edit⟩
abbrev rm_X4_edit : Room := { frames := 5, cells := 0, slots := 0, locals := 102 }
set_option maxHeartbeats 1000000 in
theorem tc_edit (l : Launch) {G : zG} {t : zTau} {w kp lg hr : Int → Int} {ev rd th : Int} {H0 : Heap} (hT : zT G t w kp lg hr ev rd th H0) {a1 a2 a3 a4 a5 : Int} (ha1 : inR a1) (ha2 : inR a2) (ha3 : inR a3) (ha4 : inR a4) (ha5 : inR a5) {n_ : Int} (hI : tInv n_ w) (hn_ : n_ < 2000) (hev2 : rd = 0 → ev < 2000) : zM l yX4_edit (ws_ yX4_edit cX4_edit 10 (some .int)) rm_X4_edit G (zTw t H0) [.ref t.1, .int (iI a1), .int (iI a2), .int (iI a3), .int (iI a4), .int (iI a5)] H0 (fun r H1 => r = some (.int (iI (kA (tC_edit w a1 a2 a3 a4 a5) (tA_edit w a1 a2 a3 a4 a5)))) ∧ zT G t (kW (tC_edit w a1 a2 a3 a4 a5) w (tW_edit w a1 a2 a3 a4 a5)) kp (kL rd (tC_edit w a1 a2 a3 a4 a5) ev lg 5 a1 a2 a3 a4 a5) (kH rd (tC_edit w a1 a2 a3 a4 a5) ev hr (tW_edit w a1 a2 a3 a4 a5 0)) (kE rd (tC_edit w a1 a2 a3 a4 a5) ev) rd (tC_edit w a1 a2 a3 a4 a5) H1) (fun _ => False) := by
  refine z_enter (by decide +kernel) (Nat.le_of_ble_eq_true rfl) ?_
  intro p e s m args below meth c ls hx hb hret hml hown hts hlocks htab hnm hK hH hl
  subst hH
  have hAn : ∀ q, s.heap.size ≤ q → zTw t s.heap q := fun _ h => Or.inr h
  have hTA : ∀ q, zTA t q → zTw t s.heap q := fun _ h => Or.inl h
  have hS : va_S (zTw t s.heap) s.heap s.heap [] := va_S.rf
  have hl : lv_has ls 10 [(0, .ref t.1), (1, .int (iI a1)), (2, .int (iI a2)), (3, .int (iI a3)), (4, .int (iI a4)), (5, .int (iI a5))] := hl
  have hrd := hT.2.2.2.2.2.2.2.2.2.2.2
  have hev := hT.2.2.2.2.2.2.2.2.2.2.1
  have hwR := hT.2.2.2.2.2.2.1
  obtain ⟨hD, hV, hL, hB, hVd, hLk, hClk, hDoc, hBr, hVer, hLnk, hNew, hFr⟩ := hI
  refine lv_iload_n hx hb dX4_edit_0 rfl (lv_at hl 1 rfl) ?_
  refine z_callp (vx_runS (As := [.int (iI a1)]) (rest := []) ⟨hx, hb, hml, hown, hts⟩ (tc_isPerson l (p_ := a1) (by first | with_reducible assumption | omega | exact ⟨by omega, by omega⟩ | omega)) (va_cwS 1 hts (lw_S q2392 q2393 q49 q2394) rfl rfl rfl hn_X4_isPerson ⟨Nat.le_of_ble_eq_true rfl, Nat.le_of_ble_eq_true rfl⟩) (z_preS hK hS (zN_le hAn hS)) rfl rfl hl.1 rfl (lv_room (Nat.le_of_ble_eq_true rfl)) dX4_edit_1 ⟨Nat.le_of_ble_eq_true rfl, Nat.le_of_ble_eq_true rfl⟩) hS (zN_le hAn hS) rfl rfl (fun locs hS => ?_)
  refine z_join (pc2 := 21) (nL := 10) (lv := [(0, .ref t.1), (1, .int (iI a1)), (2, .int (iI a2)), (3, .int (iI a3)), (4, .int (iI a4)), (5, .int (iI a5))]) (st2 := [.int (iI (bI ((tw_isPerson a1) && (tw_isBranch w a2 a3))))]) hS (fun J_1 => ?_) (fun locs ls hS hl => ?_)
  · refine z_ifb_eq (b := tw_isPerson a1) (tgt := 20) hx hb dX4_edit_4 (by decide) (fun c_2 => ?_) (fun c_2 => ?_)
    · refine lv_iconst (v := iI 0) hx hb dX4_edit_20 rfl ?_
      refine z_top (x := 0) (y := bI ((tw_isPerson a1) && (tw_isBranch w a2 a3))) (by simp [bI, c_2]) ?_
      exact J_1 _ ls hS (lv_sub hl [0, 1, 2, 3, 4, 5] rfl)
    · refine lv_aload_n hx hb dX4_edit_7 rfl (lv_at hl 0 rfl) ?_
      refine lv_iload_n hx hb dX4_edit_8 rfl (lv_at hl 2 rfl) ?_
      refine lv_iload_n hx hb dX4_edit_9 rfl (lv_at hl 3 rfl) ?_
      refine z_callp (vx_runV (As := [.int (iI a2), .int (iI a3)]) (rest := []) ⟨hx, hb, hml, hown, hts⟩ (tc_isBranch l hT (d := a2) (b := a3) (by first | with_reducible assumption | omega | exact ⟨by omega, by omega⟩ | omega) (by first | with_reducible assumption | omega | exact ⟨by omega, by omega⟩ | omega) (by first | with_reducible assumption | omega | exact ⟨by omega, by omega⟩ | omega) (by first | with_reducible assumption | omega | exact ⟨by omega, by omega⟩ | omega)) (cwV 2 hts (lw_V q2424 q2426 qs18 q49 q2427) rfl rfl rfl hd_X4_isBranch ⟨Nat.le_of_ble_eq_true rfl, Nat.le_of_ble_eq_true rfl⟩) (z_preV hK hS (zN_le hAn hS) hT.1 rfl rfl) rfl rfl hl.1 rfl (lv_room (Nat.le_of_ble_eq_true rfl)) dX4_edit_10 ⟨Nat.le_of_ble_eq_true rfl, Nat.le_of_ble_eq_true rfl⟩) hS (zN_le hAn hS) rfl rfl (fun locs hS => ?_)
      refine z_ifb_eq (b := tw_isBranch w a2 a3) (tgt := 20) hx hb dX4_edit_13 (by decide) (fun c_3 => ?_) (fun c_3 => ?_)
      · refine lv_iconst (v := iI 0) hx hb dX4_edit_20 rfl ?_
        refine z_top (x := 0) (y := bI ((tw_isPerson a1) && (tw_isBranch w a2 a3))) (by simp [bI, c_2, c_3]) ?_
        exact J_1 _ ls hS (lv_sub hl [0, 1, 2, 3, 4, 5] rfl)
      · refine lv_iconst (v := iI 1) hx hb dX4_edit_16 rfl ?_
        refine lv_goto (tgt := 21) hx hb dX4_edit_17 (by decide) ?_
        refine z_top (x := 1) (y := bI ((tw_isPerson a1) && (tw_isBranch w a2 a3))) (by simp [bI, c_2, c_3]) ?_
        exact J_1 _ ls hS (lv_sub hl [0, 1, 2, 3, 4, 5] rfl)
  · refine lv_istore (lv' := [(6, .int (iI (bI ((tw_isPerson a1) && (tw_isBranch w a2 a3))))), (0, .ref t.1), (1, .int (iI a1)), (2, .int (iI a2)), (3, .int (iI a3)), (4, .int (iI a4)), (5, .int (iI a5))]) hx hb dX4_edit_21 hl (by decide) rfl (fun ls hl => ?_)
    refine lv_iload hx hb dX4_edit_23 (lv_at hl 5 rfl) ?_
    refine lv_iconst (v := iI 0) hx hb dX4_edit_25 rfl ?_
    refine lv_iconst (v := iI 3) hx hb dX4_edit_26 rfl ?_
    refine z_callp (vx_runS (As := [.int (iI a4), .int (iI 0), .int (iI 3)]) (rest := []) ⟨hx, hb, hml, hown, hts⟩ (tc_lies l (v := a4) (low := 0) (high := 3) (by first | with_reducible assumption | omega | exact ⟨by omega, by omega⟩ | omega) (by first | with_reducible assumption | omega | exact ⟨by omega, by omega⟩ | omega) (by first | with_reducible assumption | omega | exact ⟨by omega, by omega⟩ | omega)) (va_cwS 3 hts (lw_S q2365 q2366 q49 q2367) rfl rfl rfl hn_X4_lies ⟨Nat.le_of_ble_eq_true rfl, Nat.le_of_ble_eq_true rfl⟩) (z_preS hK hS (zN_le hAn hS)) rfl rfl hl.1 rfl (lv_room (Nat.le_of_ble_eq_true rfl)) dX4_edit_27 ⟨Nat.le_of_ble_eq_true rfl, Nat.le_of_ble_eq_true rfl⟩) hS (zN_le hAn hS) rfl rfl (fun locs hS => ?_)
    refine z_join (pc2 := 61) (nL := 10) (lv := [(6, .int (iI (bI ((tw_isPerson a1) && (tw_isBranch w a2 a3))))), (0, .ref t.1), (1, .int (iI a1)), (2, .int (iI a2)), (3, .int (iI a3)), (4, .int (iI a4)), (5, .int (iI a5))]) (st2 := [.int (iI (bI ((tw_lies a4 0 3) && (tw_lies a5 0 (if a4 = 3 then 9999 else 99)))))]) hS (fun J_4 => ?_) (fun locs ls hS hl => ?_)
    · refine z_ifb_eq (b := tw_lies a4 0 3) (tgt := 60) hx hb dX4_edit_30 (by decide) (fun c_5 => ?_) (fun c_5 => ?_)
      · refine lv_iconst (v := iI 0) hx hb dX4_edit_60 rfl ?_
        refine z_top (x := 0) (y := bI ((tw_lies a4 0 3) && (tw_lies a5 0 (if a4 = 3 then 9999 else 99)))) (by simp [bI, c_5]) ?_
        exact J_4 _ ls hS (lv_sub hl [0, 1, 2, 3, 4, 5, 6] rfl)
      · refine lv_iload hx hb dX4_edit_33 (lv_at hl 6 rfl) ?_
        refine lv_iconst (v := iI 0) hx hb dX4_edit_35 rfl ?_
        refine lv_iload hx hb dX4_edit_36 (lv_at hl 5 rfl) ?_
        refine lv_iconst (v := iI 3) hx hb dX4_edit_38 rfl ?_
        refine z_join (pc2 := 50) (nL := 10) (lv := [(6, .int (iI (bI ((tw_isPerson a1) && (tw_isBranch w a2 a3))))), (0, .ref t.1), (1, .int (iI a1)), (2, .int (iI a2)), (3, .int (iI a3)), (4, .int (iI a4)), (5, .int (iI a5))]) (st2 := [.int (iI (if a4 = 3 then 9999 else 99)), .int (iI 0), .int (iI a5)]) hS (fun J_6 => ?_) (fun locs ls hS hl => ?_)
        · refine z_icmp_ne (x := a4) (y := 3) (tgt := 48) hx hb (by first | with_reducible assumption | omega | exact ⟨by omega, by omega⟩) (by decide) dX4_edit_39 (by decide) (fun c_7 => ?_) (fun c_7 => ?_)
          · refine lv_bipush (v := iI 99) hx hb dX4_edit_48 (by decide) ?_
            refine z_top (x := 99) (y := if a4 = 3 then 9999 else 99) (by simp [bI, c_7]) ?_
            exact J_6 _ ls hS (lv_sub hl [0, 1, 2, 3, 4, 5, 6] rfl)
          · refine lv_sipush (v := iI 9999) hx hb dX4_edit_42 (by decide) ?_
            refine lv_goto (tgt := 50) hx hb dX4_edit_45 (by decide) ?_
            refine z_top (x := 9999) (y := if a4 = 3 then 9999 else 99) (by simp [bI, c_7]) ?_
            exact J_6 _ ls hS (lv_sub hl [0, 1, 2, 3, 4, 5, 6] rfl)
        · refine z_callp (vx_runS (As := [.int (iI a5), .int (iI 0), .int (iI (if a4 = 3 then 9999 else 99))]) (rest := []) ⟨hx, hb, hml, hown, hts⟩ (tc_lies l (v := a5) (low := 0) (high := if a4 = 3 then 9999 else 99) (by first | with_reducible assumption | omega | exact ⟨by omega, by omega⟩ | omega) (by first | with_reducible assumption | omega | exact ⟨by omega, by omega⟩ | omega) (by first | with_reducible assumption | omega | exact ⟨by omega, by omega⟩ | omega)) (va_cwS 3 hts (lw_S q2365 q2366 q49 q2367) rfl rfl rfl hn_X4_lies ⟨Nat.le_of_ble_eq_true rfl, Nat.le_of_ble_eq_true rfl⟩) (z_preS hK hS (zN_le hAn hS)) rfl rfl hl.1 rfl (lv_room (Nat.le_of_ble_eq_true rfl)) dX4_edit_50 ⟨Nat.le_of_ble_eq_true rfl, Nat.le_of_ble_eq_true rfl⟩) hS (zN_le hAn hS) rfl rfl (fun locs hS => ?_)
          refine z_ifb_eq (b := tw_lies a5 0 (if a4 = 3 then 9999 else 99)) (tgt := 60) hx hb dX4_edit_53 (by decide) (fun c_8 => ?_) (fun c_8 => ?_)
          · refine lv_iconst (v := iI 0) hx hb dX4_edit_60 rfl ?_
            refine z_top (x := 0) (y := bI ((tw_lies a4 0 3) && (tw_lies a5 0 (if a4 = 3 then 9999 else 99)))) (by simp [bI, c_5, c_8]) ?_
            exact J_4 _ ls hS (lv_sub hl [0, 1, 2, 3, 4, 5, 6] rfl)
          · refine lv_iconst (v := iI 1) hx hb dX4_edit_56 rfl ?_
            refine lv_goto (tgt := 61) hx hb dX4_edit_57 (by decide) ?_
            refine z_top (x := 1) (y := bI ((tw_lies a4 0 3) && (tw_lies a5 0 (if a4 = 3 then 9999 else 99)))) (by simp [bI, c_5, c_8]) ?_
            exact J_4 _ ls hS (lv_sub hl [0, 1, 2, 3, 4, 5, 6] rfl)
    · refine lv_istore (lv' := [(7, .int (iI (bI ((tw_lies a4 0 3) && (tw_lies a5 0 (if a4 = 3 then 9999 else 99)))))), (6, .int (iI (bI ((tw_isPerson a1) && (tw_isBranch w a2 a3))))), (0, .ref t.1), (1, .int (iI a1)), (2, .int (iI a2)), (3, .int (iI a3)), (4, .int (iI a4)), (5, .int (iI a5))]) hx hb dX4_edit_61 hl (by decide) rfl (fun ls hl => ?_)
      refine lv_aload_n hx hb dX4_edit_63 rfl (lv_at hl 2 rfl) ?_
      refine lv_iload hx hb dX4_edit_64 (lv_at hl 1 rfl) ?_
      refine lv_iload hx hb dX4_edit_66 (lv_at hl 0 rfl) ?_
      refine lv_iload hx hb dX4_edit_68 (lv_at hl 1 rfl) ?_
      refine z_join (pc2 := 88) (nL := 10) (lv := [(7, .int (iI (bI ((tw_lies a4 0 3) && (tw_lies a5 0 (if a4 = 3 then 9999 else 99)))))), (6, .int (iI (bI ((tw_isPerson a1) && (tw_isBranch w a2 a3))))), (0, .ref t.1), (1, .int (iI a1)), (2, .int (iI a2)), (3, .int (iI a3)), (4, .int (iI a4)), (5, .int (iI a5))]) (st2 := [.int (iI (bI (((tw_isPerson a1) && (tw_isBranch w a2 a3)) && (tw_holds w a1 a2 a3)))), .int (iI (bI ((tw_lies a4 0 3) && (tw_lies a5 0 (if a4 = 3 then 9999 else 99))))), .int (iI (bI ((tw_isPerson a1) && (tw_isBranch w a2 a3)))), .ref t.1]) hS (fun J_9 => ?_) (fun locs ls hS hl => ?_)
      · refine z_ifb_eq (b := (tw_isPerson a1) && (tw_isBranch w a2 a3)) (tgt := 87) hx hb dX4_edit_70 (by decide) (fun c_10 => ?_) (fun c_10 => ?_)
        · refine lv_iconst (v := iI 0) hx hb dX4_edit_87 rfl ?_
          refine z_top (x := 0) (y := bI (((tw_isPerson a1) && (tw_isBranch w a2 a3)) && (tw_holds w a1 a2 a3))) (by simp [bI, c_10]) ?_
          exact J_9 _ ls hS (lv_sub hl [0, 1, 2, 3, 4, 5, 6, 7] rfl)
        · obtain ⟨hp, hd, hbx⟩ := tw_are3 c_10
          have hb3 := hB _ hd.1 hd.2
          obtain ⟨hho, hgv, hcp, hog, hog2, hcv⟩ := hBr _ _ hd.1 hd.2 hbx.1 hbx.2
          have hgl : inR (w (5 + 32 * a2 + 8 + 8 * a3 + 2) + w 1 - w 0) := ⟨by omega, by omega⟩
          have hnw := hNew _ _ hd.1 hd.2 hbx.1 hbx.2
          have hnR := tw_newestOf_R (d := a2) (b := a3) hV
          obtain ⟨hvb, hvj, hvn, hvt, hvv⟩ := hVer _ hnw hnR.2
          have hdoc := hDoc _ hd.1 hd.2
          refine lv_aload_n hx hb dX4_edit_73 rfl (lv_at hl 2 rfl) ?_
          refine lv_iload_n hx hb dX4_edit_74 rfl (lv_at hl 3 rfl) ?_
          refine lv_iload_n hx hb dX4_edit_75 rfl (lv_at hl 4 rfl) ?_
          refine lv_iload_n hx hb dX4_edit_76 rfl (lv_at hl 5 rfl) ?_
          refine z_callp (vx_runV (As := [.int (iI a1), .int (iI a2), .int (iI a3)]) (rest := [.int (iI (bI ((tw_lies a4 0 3) && (tw_lies a5 0 (if a4 = 3 then 9999 else 99))))), .int (iI (bI ((tw_isPerson a1) && (tw_isBranch w a2 a3)))), .ref t.1]) ⟨hx, hb, hml, hown, hts⟩ (tc_holds l hT (p_ := a1) (d := a2) (b := a3) (by first | with_reducible assumption | omega | exact ⟨by omega, by omega⟩ | omega) (by first | with_reducible assumption | omega | exact ⟨by omega, by omega⟩ | omega) (by first | with_reducible assumption | omega | exact ⟨by omega, by omega⟩ | omega) (by first | with_reducible assumption | omega | exact ⟨by omega, by omega⟩ | omega)) (cwV 3 hts (lw_V q2457 q2459 qs25 q49 q2460) rfl rfl rfl hd_X4_holds ⟨Nat.le_of_ble_eq_true rfl, Nat.le_of_ble_eq_true rfl⟩) (z_preV hK hS (zN_le hAn hS) hT.1 rfl rfl) rfl rfl hl.1 rfl (lv_room (Nat.le_of_ble_eq_true rfl)) dX4_edit_77 ⟨Nat.le_of_ble_eq_true rfl, Nat.le_of_ble_eq_true rfl⟩) hS (zN_le hAn hS) rfl rfl (fun locs hS => ?_)
          refine z_ifb_eq (b := tw_holds w a1 a2 a3) (tgt := 87) hx hb dX4_edit_80 (by decide) (fun c_11 => ?_) (fun c_11 => ?_)
          · refine lv_iconst (v := iI 0) hx hb dX4_edit_87 rfl ?_
            refine z_top (x := 0) (y := bI (((tw_isPerson a1) && (tw_isBranch w a2 a3)) && (tw_holds w a1 a2 a3))) (by simp [bI, c_10, c_11]) ?_
            exact J_9 _ ls hS (lv_sub hl [0, 1, 2, 3, 4, 5, 6, 7] rfl)
          · refine lv_iconst (v := iI 1) hx hb dX4_edit_83 rfl ?_
            refine lv_goto (tgt := 88) hx hb dX4_edit_84 (by decide) ?_
            refine z_top (x := 1) (y := bI (((tw_isPerson a1) && (tw_isBranch w a2 a3)) && (tw_holds w a1 a2 a3))) (by simp [bI, c_10, c_11]) ?_
            exact J_9 _ ls hS (lv_sub hl [0, 1, 2, 3, 4, 5, 6, 7] rfl)
      · refine z_callm (v := .int (iI (bI (((tw_isPerson a1) && (tw_isBranch w a2 a3)) && (((tw_lies a4 0 3) && (tw_lies a5 0 (if a4 = 3 then 9999 else 99))) && (((tw_isPerson a1) && (tw_isBranch w a2 a3)) && (tw_holds w a1 a2 a3))))))) (P := (fun H1 => zT G t w kp lg hr ev rd (tw_ok3 ((tw_isPerson a1) && (tw_isBranch w a2 a3)) ((tw_lies a4 0 3) && (tw_lies a5 0 (if a4 = 3 then 9999 else 99))) (((tw_isPerson a1) && (tw_isBranch w a2 a3)) && (tw_holds w a1 a2 a3))) H1)) (vx_runV (As := [.int (iI (bI ((tw_isPerson a1) && (tw_isBranch w a2 a3)))), .int (iI (bI ((tw_lies a4 0 3) && (tw_lies a5 0 (if a4 = 3 then 9999 else 99))))), .int (iI (bI (((tw_isPerson a1) && (tw_isBranch w a2 a3)) && (tw_holds w a1 a2 a3))))]) (rest := []) ⟨hx, hb, hml, hown, hts⟩ (tc_ok_2 l hT (ba := (tw_isPerson a1) && (tw_isBranch w a2 a3)) (bb := (tw_lies a4 0 3) && (tw_lies a5 0 (if a4 = 3 then 9999 else 99))) (bc := ((tw_isPerson a1) && (tw_isBranch w a2 a3)) && (tw_holds w a1 a2 a3))) (cwV 3 hts (lw_V q2372 q2374 qs12 q49 q2375) rfl rfl rfl hd_X4_ok_2 ⟨Nat.le_of_ble_eq_true rfl, Nat.le_of_ble_eq_true rfl⟩) (z_preV hK hS (zTw_le hTA hAn hS) hT.1 rfl rfl) rfl rfl hl.1 rfl (lv_room (Nat.le_of_ble_eq_true rfl)) dX4_edit_88 ⟨Nat.le_of_ble_eq_true rfl, Nat.le_of_ble_eq_true rfl⟩) hS (zTw_le hTA hAn hS) rfl rfl (fun H locs hT hS => ?_)
        refine z_ifb_ne (b := ((tw_isPerson a1) && (tw_isBranch w a2 a3)) && (((tw_lies a4 0 3) && (tw_lies a5 0 (if a4 = 3 then 9999 else 99))) && (((tw_isPerson a1) && (tw_isBranch w a2 a3)) && (tw_holds w a1 a2 a3)))) (tgt := 96) hx hb dX4_edit_91 (by decide) (fun c_12 => ?_) (fun c_12 => ?_)
        · have hc := c_12
          obtain ⟨c_are, -⟩ := Bool.and_eq_true_iff.mp hc
          obtain ⟨hp, hd, hbx⟩ := tw_are3 c_are
          have hb3 := hB _ hd.1 hd.2
          obtain ⟨hho, hgv, hcp, hog, hog2, hcv⟩ := hBr _ _ hd.1 hd.2 hbx.1 hbx.2
          have hgl : inR (w (5 + 32 * a2 + 8 + 8 * a3 + 2) + w 1 - w 0) := ⟨by omega, by omega⟩
          have hnw := hNew _ _ hd.1 hd.2 hbx.1 hbx.2
          have hnR := tw_newestOf_R (d := a2) (b := a3) hV
          obtain ⟨hvb, hvj, hvn, hvt, hvv⟩ := hVer _ hnw hnR.2
          have hdoc := hDoc _ hd.1 hd.2
          simp only [Bool.and_eq_true, Bool.or_eq_true, decide_eq_true_eq, Bool.not_eq_eq_eq_not, Bool.not_true, decide_eq_false_iff_not, Bool.not_false] at hc
          rw [tw_lies_iff] at hc
          have hcv4 := hcv a4 (by omega) (by omega)
          refine lv_iload_n hx hb dX4_edit_96 rfl (lv_at hl 4 rfl) ?_
          refine lv_iload_n hx hb dX4_edit_97 rfl (lv_at hl 5 rfl) ?_
          refine z_callp (vx_runS (As := [.int (iI a2), .int (iI a3)]) (rest := []) ⟨hx, hb, hml, hown, hts⟩ (tc_place l (d := a2) (b := a3)) (va_cwS 2 hts (lw_S q2398 q2399 q49 q2400) rfl rfl rfl hn_X4_place ⟨Nat.le_of_ble_eq_true rfl, Nat.le_of_ble_eq_true rfl⟩) (z_preS hK hS (zN_le hAn hS)) rfl rfl hl.1 rfl (lv_room (Nat.le_of_ble_eq_true rfl)) dX4_edit_98 ⟨Nat.le_of_ble_eq_true rfl, Nat.le_of_ble_eq_true rfl⟩) hS (zN_le hAn hS) rfl rfl (fun locs hS => ?_)
          refine lv_iconst (v := iI 4) hx hb dX4_edit_101 rfl ?_
          refine z_iadd (x := 5 + 32 * a2 + 8 + 8 * a3) (y := 4) hx hb dX4_edit_102 ?_
          refine lv_iload hx hb dX4_edit_103 (lv_at hl 6 rfl) ?_
          refine z_iadd (x := 5 + 32 * a2 + 8 + 8 * a3 + 4) (y := a4) hx hb dX4_edit_105 ?_
          refine lv_istore (lv' := [(8, .int (iI (5 + 32 * a2 + 8 + 8 * a3 + 4 + a4))), (7, .int (iI (bI ((tw_lies a4 0 3) && (tw_lies a5 0 (if a4 = 3 then 9999 else 99)))))), (6, .int (iI (bI ((tw_isPerson a1) && (tw_isBranch w a2 a3))))), (0, .ref t.1), (1, .int (iI a1)), (2, .int (iI a2)), (3, .int (iI a3)), (4, .int (iI a4)), (5, .int (iI a5))]) hx hb dX4_edit_106 hl (by decide) rfl (fun ls hl => ?_)
          refine lv_aload_n hx hb dX4_edit_108 rfl (lv_at hl 3 rfl) ?_
          refine z_get (k := 0) hx hb hts in_X4 hown hK hT.1 rfl (by decide) q2331 rfl (v := .ref t.2.1) rfl dX4_edit_109 ?_
          refine lv_iload hx hb dX4_edit_112 (lv_at hl 0 rfl) ?_
          refine z_ildZ (i := 5 + 32 * a2 + 8 + 8 * a3 + 4 + a4) (f := w) hx hb hK hT.2.1 ⟨by omega, by omega⟩ (by decide) dX4_edit_114 ?_
          have r_13 : inR (w (5 + 32 * a2 + 8 + 8 * a3 + 4 + a4)) := hT.2.2.2.2.2.2.1 (5 + 32 * a2 + 8 + 8 * a3 + 4 + a4)
          refine lv_istore (lv' := [(9, .int (iI (w (5 + 32 * a2 + 8 + 8 * a3 + 4 + a4)))), (8, .int (iI (5 + 32 * a2 + 8 + 8 * a3 + 4 + a4))), (7, .int (iI (bI ((tw_lies a4 0 3) && (tw_lies a5 0 (if a4 = 3 then 9999 else 99)))))), (6, .int (iI (bI ((tw_isPerson a1) && (tw_isBranch w a2 a3))))), (0, .ref t.1), (1, .int (iI a1)), (2, .int (iI a2)), (3, .int (iI a3)), (4, .int (iI a4)), (5, .int (iI a5))]) hx hb dX4_edit_115 hl (by decide) rfl (fun ls hl => ?_)
          refine lv_aload_n hx hb dX4_edit_117 rfl (lv_at hl 4 rfl) ?_
          refine z_get (k := 0) hx hb hts in_X4 hown hK hT.1 rfl (by decide) q2331 rfl (v := .ref t.2.1) rfl dX4_edit_118 ?_
          refine lv_iload hx hb dX4_edit_121 (lv_at hl 1 rfl) ?_
          refine lv_iload hx hb dX4_edit_123 (lv_at hl 9 rfl) ?_
          refine zt_st (i := 5 + 32 * a2 + 8 + 8 * a3 + 4 + a4) (x := a5) hx hb hK hT hTA hS ⟨by omega, by omega⟩ (by first | with_reducible assumption | omega | exact ⟨by omega, by omega⟩) dX4_edit_125 (fun H locs hT hS => ?_)
          refine lv_aload_n hx hb dX4_edit_126 rfl (lv_at hl 4 rfl) ?_
          refine lv_iconst (v := iI 5) hx hb dX4_edit_127 rfl ?_
          refine lv_iload_n hx hb dX4_edit_128 rfl (lv_at hl 5 rfl) ?_
          refine lv_iload_n hx hb dX4_edit_129 rfl (lv_at hl 6 rfl) ?_
          refine lv_iload_n hx hb dX4_edit_130 rfl (lv_at hl 7 rfl) ?_
          refine lv_iload hx hb dX4_edit_131 (lv_at hl 8 rfl) ?_
          refine lv_iload hx hb dX4_edit_133 (lv_at hl 9 rfl) ?_
          refine z_callmv (P := (fun H1 => zT G t (zup w (5 + 32 * a2 + 8 + 8 * a3 + 4 + a4) a5) kp (kL rd 0 ev lg 5 a1 a2 a3 a4 a5) (kH rd 0 ev hr ((zup w (5 + 32 * a2 + 8 + 8 * a3 + 4 + a4) a5) 0)) (kE rd 0 ev) rd (tw_ok3 ((tw_isPerson a1) && (tw_isBranch w a2 a3)) ((tw_lies a4 0 3) && (tw_lies a5 0 (if a4 = 3 then 9999 else 99))) (((tw_isPerson a1) && (tw_isBranch w a2 a3)) && (tw_holds w a1 a2 a3))) H1)) (vx_runV (As := [.int (iI 5), .int (iI a1), .int (iI a2), .int (iI a3), .int (iI a4), .int (iI a5)]) (rest := []) ⟨hx, hb, hml, hown, hts⟩ (tc_keep l hT (k0 := 5) (a1 := a1) (a2 := a2) (a3 := a3) (a4 := a4) (a5 := a5) (by first | with_reducible assumption | omega | exact ⟨by omega, by omega⟩ | omega) (by first | with_reducible assumption | omega | exact ⟨by omega, by omega⟩ | omega) (by first | with_reducible assumption | omega | exact ⟨by omega, by omega⟩ | omega) (by first | with_reducible assumption | omega | exact ⟨by omega, by omega⟩ | omega) (by first | with_reducible assumption | omega | exact ⟨by omega, by omega⟩ | omega) (by first | with_reducible assumption | omega | exact ⟨by omega, by omega⟩ | omega) (by first | with_reducible assumption | omega | exact ⟨by omega, by omega⟩ | omega)) (cwV 6 hts (lw_V q2376 q2378 qs13 q49 q2379) rfl rfl rfl hd_X4_keep ⟨Nat.le_of_ble_eq_true rfl, Nat.le_of_ble_eq_true rfl⟩) (z_preV hK hS (zTw_le hTA hAn hS) hT.1 rfl rfl) rfl rfl hl.1 rfl (lv_room (Nat.le_of_ble_eq_true rfl)) dX4_edit_135 ⟨Nat.le_of_ble_eq_true rfl, Nat.le_of_ble_eq_true rfl⟩) hS (zTw_le hTA hAn hS) rfl rfl (fun H locs hT hS => ?_)
          refine lv_iload hx hb dX4_edit_138 (lv_at hl 0 rfl) ?_
          exact z_iret hx hb hret rfl hlocks hS (by have hc : tC_edit w a1 a2 a3 a4 a5 = 0 := (by unfold tC_edit; simp only [tw_ok3_0]; first | assumption | (simp_all; done)); exact z_okend hc (by first | rfl | (simp [tW_edit, zup]; done)) hT) (Nat.le_of_ble_eq_true rfl) (Nat.le_of_ble_eq_true rfl) dX4_edit_140
        · refine lv_iconst (v := iI 0) hx hb dX4_edit_94 rfl ?_
          exact z_iret hx hb hret rfl hlocks hS (by have hc : ¬ tC_edit w a1 a2 a3 a4 a5 = 0 := (by unfold tC_edit; simp only [tw_ok3_0]; first | (simp_all; done) | assumption); exact z_noend hc hT) (Nat.le_of_ble_eq_true rfl) (Nat.le_of_ble_eq_true rfl) dX4_edit_95
def tC_checkIn (w : Int → Int) (a1 a2 a3 : Int) (ba4 : Bool) : Int := tw_ok3 ((tw_isPerson a1) && (tw_isBranch w a2 a3)) (((tw_isPerson a1) && (tw_isBranch w a2 a3)) && ((tw_holds w a1 a2 a3) && (decide (w 3 < 60)))) true
def tW_checkIn (w : Int → Int) (a1 a2 a3 : Int) (ba4 : Bool) : Int → Int := zup (tw_make w a2 a3 (w (261 + 9 * tw_newestOf w a2 a3 + 2) + bI ba4) (if ba4 = true then 0 else w (261 + 9 * tw_newestOf w a2 a3 + 3) + 1) (5 + 32 * a2 + 8 + 8 * a3 + 4)) (5 + 32 * a2 + 8 + 8 * a3 + 1) 0
def tA_checkIn (w : Int → Int) (a1 a2 a3 : Int) (ba4 : Bool) : Int := w 3
theorem hn_X4_checkIn : yX4_checkIn.cls ≠ "java/lang/invoke/MethodHandle" ∧ yX4_checkIn.cls ≠ "java/lang/invoke/VarHandle" ∧ (parseMethodDescriptor yX4_checkIn.desc).map (fun d => d.parameters.length) = some 4 := by decide +kernel
theorem hd_X4_checkIn : yX4_checkIn.cls = "CheckoutDeskModel" ∧ yX4_checkIn.cls ≠ "java/lang/invoke/MethodHandle" ∧ yX4_checkIn.cls ≠ "java/lang/invoke/VarHandle" ∧ (parseMethodDescriptor yX4_checkIn.desc).map (fun d => d.parameters.length) = some 4 := ⟨rfl, hn_X4_checkIn⟩
abbrev rm_X4_checkIn : Room := { frames := 5, cells := 0, slots := 0, locals := 102 }
set_option maxHeartbeats 1000000 in
theorem tc_checkIn (l : Launch) {G : zG} {t : zTau} {w kp lg hr : Int → Int} {ev rd th : Int} {H0 : Heap} (hT : zT G t w kp lg hr ev rd th H0) {a1 a2 a3 : Int} {ba4 : Bool} (ha1 : inR a1) (ha2 : inR a2) (ha3 : inR a3) {n_ : Int} (hI : tInv n_ w) (hn_ : n_ < 2000) (hev2 : rd = 0 → ev < 2000) : zM l yX4_checkIn (ws_ yX4_checkIn cX4_checkIn 8 (some .int)) rm_X4_checkIn G (zTw t H0) [.ref t.1, .int (iI a1), .int (iI a2), .int (iI a3), .int (iI (bI ba4))] H0 (fun r H1 => r = some (.int (iI (kA (tC_checkIn w a1 a2 a3 ba4) (tA_checkIn w a1 a2 a3 ba4)))) ∧ zT G t (kW (tC_checkIn w a1 a2 a3 ba4) w (tW_checkIn w a1 a2 a3 ba4)) kp (kL rd (tC_checkIn w a1 a2 a3 ba4) ev lg 6 a1 a2 a3 (bI ba4) 0) (kH rd (tC_checkIn w a1 a2 a3 ba4) ev hr (tW_checkIn w a1 a2 a3 ba4 0)) (kE rd (tC_checkIn w a1 a2 a3 ba4) ev) rd (tC_checkIn w a1 a2 a3 ba4) H1) (fun _ => False) := by
  refine z_enter (by decide +kernel) (Nat.le_of_ble_eq_true rfl) ?_
  intro p e s m args below meth c ls hx hb hret hml hown hts hlocks htab hnm hK hH hl
  subst hH
  have hAn : ∀ q, s.heap.size ≤ q → zTw t s.heap q := fun _ h => Or.inr h
  have hTA : ∀ q, zTA t q → zTw t s.heap q := fun _ h => Or.inl h
  have hS : va_S (zTw t s.heap) s.heap s.heap [] := va_S.rf
  have hl : lv_has ls 8 [(0, .ref t.1), (1, .int (iI a1)), (2, .int (iI a2)), (3, .int (iI a3)), (4, .int (iI (bI ba4)))] := hl
  have hrd := hT.2.2.2.2.2.2.2.2.2.2.2
  have hev := hT.2.2.2.2.2.2.2.2.2.2.1
  have hwR := hT.2.2.2.2.2.2.1
  obtain ⟨hD, hV, hL, hB, hVd, hLk, hClk, hDoc, hBr, hVer, hLnk, hNew, hFr⟩ := hI
  have hbi := bI_01 ba4
  refine lv_iload_n hx hb dX4_checkIn_0 rfl (lv_at hl 1 rfl) ?_
  refine z_callp (vx_runS (As := [.int (iI a1)]) (rest := []) ⟨hx, hb, hml, hown, hts⟩ (tc_isPerson l (p_ := a1) (by first | with_reducible assumption | omega | exact ⟨by omega, by omega⟩ | omega)) (va_cwS 1 hts (lw_S q2392 q2393 q49 q2394) rfl rfl rfl hn_X4_isPerson ⟨Nat.le_of_ble_eq_true rfl, Nat.le_of_ble_eq_true rfl⟩) (z_preS hK hS (zN_le hAn hS)) rfl rfl hl.1 rfl (lv_room (Nat.le_of_ble_eq_true rfl)) dX4_checkIn_1 ⟨Nat.le_of_ble_eq_true rfl, Nat.le_of_ble_eq_true rfl⟩) hS (zN_le hAn hS) rfl rfl (fun locs hS => ?_)
  refine z_join (pc2 := 21) (nL := 8) (lv := [(0, .ref t.1), (1, .int (iI a1)), (2, .int (iI a2)), (3, .int (iI a3)), (4, .int (iI (bI ba4)))]) (st2 := [.int (iI (bI ((tw_isPerson a1) && (tw_isBranch w a2 a3))))]) hS (fun J_1 => ?_) (fun locs ls hS hl => ?_)
  · refine z_ifb_eq (b := tw_isPerson a1) (tgt := 20) hx hb dX4_checkIn_4 (by decide) (fun c_2 => ?_) (fun c_2 => ?_)
    · refine lv_iconst (v := iI 0) hx hb dX4_checkIn_20 rfl ?_
      refine z_top (x := 0) (y := bI ((tw_isPerson a1) && (tw_isBranch w a2 a3))) (by simp [bI, c_2]) ?_
      exact J_1 _ ls hS (lv_sub hl [0, 1, 2, 3, 4] rfl)
    · refine lv_aload_n hx hb dX4_checkIn_7 rfl (lv_at hl 0 rfl) ?_
      refine lv_iload_n hx hb dX4_checkIn_8 rfl (lv_at hl 2 rfl) ?_
      refine lv_iload_n hx hb dX4_checkIn_9 rfl (lv_at hl 3 rfl) ?_
      refine z_callp (vx_runV (As := [.int (iI a2), .int (iI a3)]) (rest := []) ⟨hx, hb, hml, hown, hts⟩ (tc_isBranch l hT (d := a2) (b := a3) (by first | with_reducible assumption | omega | exact ⟨by omega, by omega⟩ | omega) (by first | with_reducible assumption | omega | exact ⟨by omega, by omega⟩ | omega) (by first | with_reducible assumption | omega | exact ⟨by omega, by omega⟩ | omega) (by first | with_reducible assumption | omega | exact ⟨by omega, by omega⟩ | omega)) (cwV 2 hts (lw_V q2424 q2426 qs18 q49 q2427) rfl rfl rfl hd_X4_isBranch ⟨Nat.le_of_ble_eq_true rfl, Nat.le_of_ble_eq_true rfl⟩) (z_preV hK hS (zN_le hAn hS) hT.1 rfl rfl) rfl rfl hl.1 rfl (lv_room (Nat.le_of_ble_eq_true rfl)) dX4_checkIn_10 ⟨Nat.le_of_ble_eq_true rfl, Nat.le_of_ble_eq_true rfl⟩) hS (zN_le hAn hS) rfl rfl (fun locs hS => ?_)
      refine z_ifb_eq (b := tw_isBranch w a2 a3) (tgt := 20) hx hb dX4_checkIn_13 (by decide) (fun c_3 => ?_) (fun c_3 => ?_)
      · refine lv_iconst (v := iI 0) hx hb dX4_checkIn_20 rfl ?_
        refine z_top (x := 0) (y := bI ((tw_isPerson a1) && (tw_isBranch w a2 a3))) (by simp [bI, c_2, c_3]) ?_
        exact J_1 _ ls hS (lv_sub hl [0, 1, 2, 3, 4] rfl)
      · refine lv_iconst (v := iI 1) hx hb dX4_checkIn_16 rfl ?_
        refine lv_goto (tgt := 21) hx hb dX4_checkIn_17 (by decide) ?_
        refine z_top (x := 1) (y := bI ((tw_isPerson a1) && (tw_isBranch w a2 a3))) (by simp [bI, c_2, c_3]) ?_
        exact J_1 _ ls hS (lv_sub hl [0, 1, 2, 3, 4] rfl)
  · refine lv_istore (lv' := [(5, .int (iI (bI ((tw_isPerson a1) && (tw_isBranch w a2 a3))))), (0, .ref t.1), (1, .int (iI a1)), (2, .int (iI a2)), (3, .int (iI a3)), (4, .int (iI (bI ba4)))]) hx hb dX4_checkIn_21 hl (by decide) rfl (fun ls hl => ?_)
    refine lv_aload_n hx hb dX4_checkIn_23 rfl (lv_at hl 1 rfl) ?_
    refine lv_iload hx hb dX4_checkIn_24 (lv_at hl 0 rfl) ?_
    refine lv_iload hx hb dX4_checkIn_26 (lv_at hl 0 rfl) ?_
    refine z_join (pc2 := 57) (nL := 8) (lv := [(5, .int (iI (bI ((tw_isPerson a1) && (tw_isBranch w a2 a3))))), (0, .ref t.1), (1, .int (iI a1)), (2, .int (iI a2)), (3, .int (iI a3)), (4, .int (iI (bI ba4)))]) (st2 := [.int (iI (bI (((tw_isPerson a1) && (tw_isBranch w a2 a3)) && ((tw_holds w a1 a2 a3) && (decide (w 3 < 60)))))), .int (iI (bI ((tw_isPerson a1) && (tw_isBranch w a2 a3)))), .ref t.1]) hS (fun J_4 => ?_) (fun locs ls hS hl => ?_)
    · refine z_ifb_eq (b := (tw_isPerson a1) && (tw_isBranch w a2 a3)) (tgt := 56) hx hb dX4_checkIn_28 (by decide) (fun c_5 => ?_) (fun c_5 => ?_)
      · refine lv_iconst (v := iI 0) hx hb dX4_checkIn_56 rfl ?_
        refine z_top (x := 0) (y := bI (((tw_isPerson a1) && (tw_isBranch w a2 a3)) && ((tw_holds w a1 a2 a3) && (decide (w 3 < 60))))) (by simp [bI, c_5]) ?_
        exact J_4 _ ls hS (lv_sub hl [0, 1, 2, 3, 4, 5] rfl)
      · obtain ⟨hp, hd, hbx⟩ := tw_are3 c_5
        have hb3 := hB _ hd.1 hd.2
        obtain ⟨hho, hgv, hcp, hog, hog2, hcv⟩ := hBr _ _ hd.1 hd.2 hbx.1 hbx.2
        have hgl : inR (w (5 + 32 * a2 + 8 + 8 * a3 + 2) + w 1 - w 0) := ⟨by omega, by omega⟩
        have hnw := hNew _ _ hd.1 hd.2 hbx.1 hbx.2
        have hnR := tw_newestOf_R (d := a2) (b := a3) hV
        obtain ⟨hvb, hvj, hvn, hvt, hvv⟩ := hVer _ hnw hnR.2
        have hdoc := hDoc _ hd.1 hd.2
        refine lv_aload_n hx hb dX4_checkIn_31 rfl (lv_at hl 1 rfl) ?_
        refine lv_iload_n hx hb dX4_checkIn_32 rfl (lv_at hl 2 rfl) ?_
        refine lv_iload_n hx hb dX4_checkIn_33 rfl (lv_at hl 3 rfl) ?_
        refine lv_iload_n hx hb dX4_checkIn_34 rfl (lv_at hl 4 rfl) ?_
        refine z_callp (vx_runV (As := [.int (iI a1), .int (iI a2), .int (iI a3)]) (rest := [.int (iI (bI ((tw_isPerson a1) && (tw_isBranch w a2 a3)))), .ref t.1]) ⟨hx, hb, hml, hown, hts⟩ (tc_holds l hT (p_ := a1) (d := a2) (b := a3) (by first | with_reducible assumption | omega | exact ⟨by omega, by omega⟩ | omega) (by first | with_reducible assumption | omega | exact ⟨by omega, by omega⟩ | omega) (by first | with_reducible assumption | omega | exact ⟨by omega, by omega⟩ | omega) (by first | with_reducible assumption | omega | exact ⟨by omega, by omega⟩ | omega)) (cwV 3 hts (lw_V q2457 q2459 qs25 q49 q2460) rfl rfl rfl hd_X4_holds ⟨Nat.le_of_ble_eq_true rfl, Nat.le_of_ble_eq_true rfl⟩) (z_preV hK hS (zN_le hAn hS) hT.1 rfl rfl) rfl rfl hl.1 rfl (lv_room (Nat.le_of_ble_eq_true rfl)) dX4_checkIn_35 ⟨Nat.le_of_ble_eq_true rfl, Nat.le_of_ble_eq_true rfl⟩) hS (zN_le hAn hS) rfl rfl (fun locs hS => ?_)
        refine z_ifb_eq (b := tw_holds w a1 a2 a3) (tgt := 56) hx hb dX4_checkIn_38 (by decide) (fun c_6 => ?_) (fun c_6 => ?_)
        · refine lv_iconst (v := iI 0) hx hb dX4_checkIn_56 rfl ?_
          refine z_top (x := 0) (y := bI (((tw_isPerson a1) && (tw_isBranch w a2 a3)) && ((tw_holds w a1 a2 a3) && (decide (w 3 < 60))))) (by simp [bI, c_5, c_6]) ?_
          exact J_4 _ ls hS (lv_sub hl [0, 1, 2, 3, 4, 5] rfl)
        · refine lv_aload_n hx hb dX4_checkIn_41 rfl (lv_at hl 1 rfl) ?_
          refine z_get (k := 0) hx hb hts in_X4 hown hK hT.1 rfl (by decide) q2331 rfl (v := .ref t.2.1) rfl dX4_checkIn_42 ?_
          refine lv_iconst (v := iI 3) hx hb dX4_checkIn_45 rfl ?_
          refine z_ildZ (i := 3) (f := w) hx hb hK hT.2.1 ⟨by omega, by omega⟩ (by decide) dX4_checkIn_46 ?_
          have r_7 : inR (w 3) := hT.2.2.2.2.2.2.1 3
          refine lv_bipush (v := iI 60) hx hb dX4_checkIn_47 (by decide) ?_
          refine z_icmp_ge (x := w 3) (y := 60) (tgt := 56) hx hb (by first | with_reducible assumption | omega | exact ⟨by omega, by omega⟩) (by decide) dX4_checkIn_49 (by decide) (fun c_8 => ?_) (fun c_8 => ?_)
          · refine lv_iconst (v := iI 0) hx hb dX4_checkIn_56 rfl ?_
            refine z_top (x := 0) (y := bI (((tw_isPerson a1) && (tw_isBranch w a2 a3)) && ((tw_holds w a1 a2 a3) && (decide (w 3 < 60))))) (by simp [bI, c_5, c_6, c_8]) ?_
            exact J_4 _ ls hS (lv_sub hl [0, 1, 2, 3, 4, 5] rfl)
          · refine lv_iconst (v := iI 1) hx hb dX4_checkIn_52 rfl ?_
            refine lv_goto (tgt := 57) hx hb dX4_checkIn_53 (by decide) ?_
            refine z_top (x := 1) (y := bI (((tw_isPerson a1) && (tw_isBranch w a2 a3)) && ((tw_holds w a1 a2 a3) && (decide (w 3 < 60))))) (by simp [bI, c_5, c_6, c_8]) ?_
            exact J_4 _ ls hS (lv_sub hl [0, 1, 2, 3, 4, 5] rfl)
    · refine z_callm (v := .int (iI (bI (((tw_isPerson a1) && (tw_isBranch w a2 a3)) && (((tw_isPerson a1) && (tw_isBranch w a2 a3)) && ((tw_holds w a1 a2 a3) && (decide (w 3 < 60)))))))) (P := (fun H1 => zT G t w kp lg hr ev rd (tw_ok3 ((tw_isPerson a1) && (tw_isBranch w a2 a3)) (((tw_isPerson a1) && (tw_isBranch w a2 a3)) && ((tw_holds w a1 a2 a3) && (decide (w 3 < 60)))) true) H1)) (vx_runV (As := [.int (iI (bI ((tw_isPerson a1) && (tw_isBranch w a2 a3)))), .int (iI (bI (((tw_isPerson a1) && (tw_isBranch w a2 a3)) && ((tw_holds w a1 a2 a3) && (decide (w 3 < 60))))))]) (rest := []) ⟨hx, hb, hml, hown, hts⟩ (tc_ok l hT (ba := (tw_isPerson a1) && (tw_isBranch w a2 a3)) (bb := ((tw_isPerson a1) && (tw_isBranch w a2 a3)) && ((tw_holds w a1 a2 a3) && (decide (w 3 < 60))))) (cwV 2 hts (lw_V q2368 q2370 qs11 q49 q2371) rfl rfl rfl hd_X4_ok ⟨Nat.le_of_ble_eq_true rfl, Nat.le_of_ble_eq_true rfl⟩) (z_preV hK hS (zTw_le hTA hAn hS) hT.1 rfl rfl) rfl rfl hl.1 rfl (lv_room (Nat.le_of_ble_eq_true rfl)) dX4_checkIn_57 ⟨Nat.le_of_ble_eq_true rfl, Nat.le_of_ble_eq_true rfl⟩) hS (zTw_le hTA hAn hS) rfl rfl (fun H locs hT hS => ?_)
      refine z_ifb_ne (b := ((tw_isPerson a1) && (tw_isBranch w a2 a3)) && (((tw_isPerson a1) && (tw_isBranch w a2 a3)) && ((tw_holds w a1 a2 a3) && (decide (w 3 < 60))))) (tgt := 65) hx hb dX4_checkIn_60 (by decide) (fun c_9 => ?_) (fun c_9 => ?_)
      · have hc := c_9
        obtain ⟨c_are, -⟩ := Bool.and_eq_true_iff.mp hc
        obtain ⟨hp, hd, hbx⟩ := tw_are3 c_are
        have hb3 := hB _ hd.1 hd.2
        obtain ⟨hho, hgv, hcp, hog, hog2, hcv⟩ := hBr _ _ hd.1 hd.2 hbx.1 hbx.2
        have hgl : inR (w (5 + 32 * a2 + 8 + 8 * a3 + 2) + w 1 - w 0) := ⟨by omega, by omega⟩
        have hnw := hNew _ _ hd.1 hd.2 hbx.1 hbx.2
        have hnR := tw_newestOf_R (d := a2) (b := a3) hV
        obtain ⟨hvb, hvj, hvn, hvt, hvv⟩ := hVer _ hnw hnR.2
        have hdoc := hDoc _ hd.1 hd.2
        simp only [Bool.and_eq_true, Bool.or_eq_true, decide_eq_true_eq, Bool.not_eq_eq_eq_not, Bool.not_true, decide_eq_false_iff_not, Bool.not_false] at hc
        refine lv_aload_n hx hb dX4_checkIn_65 rfl (lv_at hl 1 rfl) ?_
        refine lv_iload_n hx hb dX4_checkIn_66 rfl (lv_at hl 3 rfl) ?_
        refine lv_iload_n hx hb dX4_checkIn_67 rfl (lv_at hl 4 rfl) ?_
        refine z_callp (vx_runV (As := [.int (iI a2), .int (iI a3)]) (rest := []) ⟨hx, hb, hml, hown, hts⟩ (tc_newestOf l hT (d := a2) (b := a3) (by first | with_reducible assumption | omega | exact ⟨by omega, by omega⟩ | omega) (by first | with_reducible assumption | omega | exact ⟨by omega, by omega⟩ | omega) (by first | with_reducible assumption | omega | exact ⟨by omega, by omega⟩ | omega)) (cwV 2 hts (lw_V q2441 q2443 qs22 q49 q2444) rfl rfl rfl hd_X4_newestOf ⟨Nat.le_of_ble_eq_true rfl, Nat.le_of_ble_eq_true rfl⟩) (z_preV hK hS (zN_le hAn hS) hT.1 rfl rfl) rfl rfl hl.1 rfl (lv_room (Nat.le_of_ble_eq_true rfl)) dX4_checkIn_68 ⟨Nat.le_of_ble_eq_true rfl, Nat.le_of_ble_eq_true rfl⟩) hS (zN_le hAn hS) rfl rfl (fun locs hS => ?_)
        refine z_callp (vx_runS (As := [.int (iI (tw_newestOf w a2 a3))]) (rest := []) ⟨hx, hb, hml, hown, hts⟩ (tc_ver l (v := tw_newestOf w a2 a3)) (va_cwS 1 hts (lw_S q2405 q2406 q49 q2407) rfl rfl rfl hn_X4_ver ⟨Nat.le_of_ble_eq_true rfl, Nat.le_of_ble_eq_true rfl⟩) (z_preS hK hS (zN_le hAn hS)) rfl rfl hl.1 rfl (lv_room (Nat.le_of_ble_eq_true rfl)) dX4_checkIn_71 ⟨Nat.le_of_ble_eq_true rfl, Nat.le_of_ble_eq_true rfl⟩) hS (zN_le hAn hS) rfl rfl (fun locs hS => ?_)
        refine lv_istore (lv' := [(6, .int (iI (261 + 9 * tw_newestOf w a2 a3))), (5, .int (iI (bI ((tw_isPerson a1) && (tw_isBranch w a2 a3))))), (0, .ref t.1), (1, .int (iI a1)), (2, .int (iI a2)), (3, .int (iI a3)), (4, .int (iI (bI ba4)))]) hx hb dX4_checkIn_74 hl (by decide) rfl (fun ls hl => ?_)
        refine lv_aload_n hx hb dX4_checkIn_76 rfl (lv_at hl 2 rfl) ?_
        refine lv_iload_n hx hb dX4_checkIn_77 rfl (lv_at hl 4 rfl) ?_
        refine lv_iload_n hx hb dX4_checkIn_78 rfl (lv_at hl 5 rfl) ?_
        refine lv_aload_n hx hb dX4_checkIn_79 rfl (lv_at hl 2 rfl) ?_
        refine z_get (k := 0) hx hb hts in_X4 hown hK hT.1 rfl (by decide) q2331 rfl (v := .ref t.2.1) rfl dX4_checkIn_80 ?_
        refine lv_iload hx hb dX4_checkIn_83 (lv_at hl 0 rfl) ?_
        refine lv_iconst (v := iI 2) hx hb dX4_checkIn_85 rfl ?_
        refine z_iadd (x := 261 + 9 * tw_newestOf w a2 a3) (y := 2) hx hb dX4_checkIn_86 ?_
        refine z_ildZ (i := 261 + 9 * tw_newestOf w a2 a3 + 2) (f := w) hx hb hK hT.2.1 ⟨by omega, by omega⟩ (by decide) dX4_checkIn_87 ?_
        have r_10 : inR (w (261 + 9 * tw_newestOf w a2 a3 + 2)) := hT.2.2.2.2.2.2.1 (261 + 9 * tw_newestOf w a2 a3 + 2)
        refine lv_iload hx hb dX4_checkIn_88 (lv_at hl 6 rfl) ?_
        refine z_join (pc2 := 98) (nL := 8) (lv := [(6, .int (iI (261 + 9 * tw_newestOf w a2 a3))), (5, .int (iI (bI ((tw_isPerson a1) && (tw_isBranch w a2 a3))))), (0, .ref t.1), (1, .int (iI a1)), (2, .int (iI a2)), (3, .int (iI a3)), (4, .int (iI (bI ba4)))]) (st2 := [.int (iI (bI ba4)), .int (iI (w (261 + 9 * tw_newestOf w a2 a3 + 2))), .int (iI a3), .int (iI a2), .ref t.1]) hS (fun J_11 => ?_) (fun locs ls hS hl => ?_)
        · refine z_ifb_eq (b := ba4) (tgt := 97) hx hb dX4_checkIn_90 (by decide) (fun c_12 => ?_) (fun c_12 => ?_)
          · refine lv_iconst (v := iI 0) hx hb dX4_checkIn_97 rfl ?_
            refine z_top (x := 0) (y := bI ba4) (by simp [bI, c_12]) ?_
            exact J_11 _ ls hS (lv_sub hl [0, 1, 2, 3, 4, 5, 6] rfl)
          · refine lv_iconst (v := iI 1) hx hb dX4_checkIn_93 rfl ?_
            refine lv_goto (tgt := 98) hx hb dX4_checkIn_94 (by decide) ?_
            refine z_top (x := 1) (y := bI ba4) (by simp [bI, c_12]) ?_
            exact J_11 _ ls hS (lv_sub hl [0, 1, 2, 3, 4, 5, 6] rfl)
        · refine z_iadd (x := w (261 + 9 * tw_newestOf w a2 a3 + 2)) (y := bI ba4) hx hb dX4_checkIn_98 ?_
          refine lv_iload hx hb dX4_checkIn_99 (lv_at hl 6 rfl) ?_
          refine z_join (pc2 := 119) (nL := 8) (lv := [(6, .int (iI (261 + 9 * tw_newestOf w a2 a3))), (5, .int (iI (bI ((tw_isPerson a1) && (tw_isBranch w a2 a3))))), (0, .ref t.1), (1, .int (iI a1)), (2, .int (iI a2)), (3, .int (iI a3)), (4, .int (iI (bI ba4)))]) (st2 := [.int (iI (if ba4 = true then 0 else w (261 + 9 * tw_newestOf w a2 a3 + 3) + 1)), .int (iI (w (261 + 9 * tw_newestOf w a2 a3 + 2) + bI ba4)), .int (iI a3), .int (iI a2), .ref t.1]) hS (fun J_13 => ?_) (fun locs ls hS hl => ?_)
          · refine z_ifb_eq (b := ba4) (tgt := 108) hx hb dX4_checkIn_101 (by decide) (fun c_14 => ?_) (fun c_14 => ?_)
            · refine lv_aload_n hx hb dX4_checkIn_108 rfl (lv_at hl 2 rfl) ?_
              refine z_get (k := 0) hx hb hts in_X4 hown hK hT.1 rfl (by decide) q2331 rfl (v := .ref t.2.1) rfl dX4_checkIn_109 ?_
              refine lv_iload hx hb dX4_checkIn_112 (lv_at hl 0 rfl) ?_
              refine lv_iconst (v := iI 3) hx hb dX4_checkIn_114 rfl ?_
              refine z_iadd (x := 261 + 9 * tw_newestOf w a2 a3) (y := 3) hx hb dX4_checkIn_115 ?_
              refine z_ildZ (i := 261 + 9 * tw_newestOf w a2 a3 + 3) (f := w) hx hb hK hT.2.1 ⟨by omega, by omega⟩ (by decide) dX4_checkIn_116 ?_
              have r_15 : inR (w (261 + 9 * tw_newestOf w a2 a3 + 3)) := hT.2.2.2.2.2.2.1 (261 + 9 * tw_newestOf w a2 a3 + 3)
              refine lv_iconst (v := iI 1) hx hb dX4_checkIn_117 rfl ?_
              refine z_iadd (x := w (261 + 9 * tw_newestOf w a2 a3 + 3)) (y := 1) hx hb dX4_checkIn_118 ?_
              refine z_top (x := w (261 + 9 * tw_newestOf w a2 a3 + 3) + 1) (y := if ba4 = true then 0 else w (261 + 9 * tw_newestOf w a2 a3 + 3) + 1) (by simp [bI, c_14]) ?_
              exact J_13 _ ls hS (lv_sub hl [0, 1, 2, 3, 4, 5, 6] rfl)
            · refine lv_iconst (v := iI 0) hx hb dX4_checkIn_104 rfl ?_
              refine lv_goto (tgt := 119) hx hb dX4_checkIn_105 (by decide) ?_
              refine z_top (x := 0) (y := if ba4 = true then 0 else w (261 + 9 * tw_newestOf w a2 a3 + 3) + 1) (by simp [bI, c_14]) ?_
              exact J_13 _ ls hS (lv_sub hl [0, 1, 2, 3, 4, 5, 6] rfl)
          · refine lv_iload_n hx hb dX4_checkIn_119 rfl (lv_at hl 4 rfl) ?_
            refine lv_iload_n hx hb dX4_checkIn_120 rfl (lv_at hl 5 rfl) ?_
            refine z_callp (vx_runS (As := [.int (iI a2), .int (iI a3)]) (rest := [.int (iI (if ba4 = true then 0 else w (261 + 9 * tw_newestOf w a2 a3 + 3) + 1)), .int (iI (w (261 + 9 * tw_newestOf w a2 a3 + 2) + bI ba4)), .int (iI a3), .int (iI a2), .ref t.1]) ⟨hx, hb, hml, hown, hts⟩ (tc_place l (d := a2) (b := a3)) (va_cwS 2 hts (lw_S q2398 q2399 q49 q2400) rfl rfl rfl hn_X4_place ⟨Nat.le_of_ble_eq_true rfl, Nat.le_of_ble_eq_true rfl⟩) (z_preS hK hS (zN_le hAn hS)) rfl rfl hl.1 rfl (lv_room (Nat.le_of_ble_eq_true rfl)) dX4_checkIn_121 ⟨Nat.le_of_ble_eq_true rfl, Nat.le_of_ble_eq_true rfl⟩) hS (zN_le hAn hS) rfl rfl (fun locs hS => ?_)
            refine lv_iconst (v := iI 4) hx hb dX4_checkIn_124 rfl ?_
            refine z_iadd (x := 5 + 32 * a2 + 8 + 8 * a3) (y := 4) hx hb dX4_checkIn_125 ?_
            refine z_callm (v := .int (iI (w 3))) (P := (fun H1 => zT G t (tw_make w a2 a3 (w (261 + 9 * tw_newestOf w a2 a3 + 2) + bI ba4) (if ba4 = true then 0 else w (261 + 9 * tw_newestOf w a2 a3 + 3) + 1) (5 + 32 * a2 + 8 + 8 * a3 + 4)) kp lg hr ev rd (tw_ok3 ((tw_isPerson a1) && (tw_isBranch w a2 a3)) (((tw_isPerson a1) && (tw_isBranch w a2 a3)) && ((tw_holds w a1 a2 a3) && (decide (w 3 < 60)))) true) H1)) (vx_runV (As := [.int (iI a2), .int (iI a3), .int (iI (w (261 + 9 * tw_newestOf w a2 a3 + 2) + bI ba4)), .int (iI (if ba4 = true then 0 else w (261 + 9 * tw_newestOf w a2 a3 + 3) + 1)), .int (iI (5 + 32 * a2 + 8 + 8 * a3 + 4))]) (rest := []) ⟨hx, hb, hml, hown, hts⟩ (tc_make l hT (d := a2) (b := a3) (mj := w (261 + 9 * tw_newestOf w a2 a3 + 2) + bI ba4) (mn := if ba4 = true then 0 else w (261 + 9 * tw_newestOf w a2 a3 + 3) + 1) (vals := 5 + 32 * a2 + 8 + 8 * a3 + 4) (by first | with_reducible assumption | omega | exact ⟨by omega, by omega⟩ | omega) (by first | with_reducible assumption | omega | exact ⟨by omega, by omega⟩ | omega) (by first | with_reducible assumption | omega | exact ⟨by omega, by omega⟩ | omega) (by first | with_reducible assumption | omega | exact ⟨by omega, by omega⟩ | omega) (by first | with_reducible assumption | omega | exact ⟨by omega, by omega⟩ | omega) (by first | with_reducible assumption | omega | exact ⟨by omega, by omega⟩ | omega)) (cwV 5 hts (lw_V q2401 q2403 qs15 q49 q2404) rfl rfl rfl hd_X4_make ⟨Nat.le_of_ble_eq_true rfl, Nat.le_of_ble_eq_true rfl⟩) (z_preV hK hS (zTw_le hTA hAn hS) hT.1 rfl rfl) rfl rfl hl.1 rfl (lv_room (Nat.le_of_ble_eq_true rfl)) dX4_checkIn_126 ⟨Nat.le_of_ble_eq_true rfl, Nat.le_of_ble_eq_true rfl⟩) hS (zTw_le hTA hAn hS) rfl rfl (fun H locs hT hS => ?_)
            refine lv_istore (lv' := [(7, .int (iI (w 3))), (6, .int (iI (261 + 9 * tw_newestOf w a2 a3))), (5, .int (iI (bI ((tw_isPerson a1) && (tw_isBranch w a2 a3))))), (0, .ref t.1), (1, .int (iI a1)), (2, .int (iI a2)), (3, .int (iI a3)), (4, .int (iI (bI ba4)))]) hx hb dX4_checkIn_129 hl (by decide) rfl (fun ls hl => ?_)
            refine lv_aload_n hx hb dX4_checkIn_131 rfl (lv_at hl 3 rfl) ?_
            refine lv_iload_n hx hb dX4_checkIn_132 rfl (lv_at hl 5 rfl) ?_
            refine lv_iload_n hx hb dX4_checkIn_133 rfl (lv_at hl 6 rfl) ?_
            refine z_callmv (P := (fun H1 => zT G t (zup (tw_make w a2 a3 (w (261 + 9 * tw_newestOf w a2 a3 + 2) + bI ba4) (if ba4 = true then 0 else w (261 + 9 * tw_newestOf w a2 a3 + 3) + 1) (5 + 32 * a2 + 8 + 8 * a3 + 4)) (5 + 32 * a2 + 8 + 8 * a3 + 1) 0) kp lg hr ev rd (tw_ok3 ((tw_isPerson a1) && (tw_isBranch w a2 a3)) (((tw_isPerson a1) && (tw_isBranch w a2 a3)) && ((tw_holds w a1 a2 a3) && (decide (w 3 < 60)))) true) H1)) (vx_runV (As := [.int (iI a2), .int (iI a3)]) (rest := []) ⟨hx, hb, hml, hown, hts⟩ (tc_unlock l hT (d := a2) (b := a3) (by first | with_reducible assumption | omega | exact ⟨by omega, by omega⟩ | omega) (by first | with_reducible assumption | omega | exact ⟨by omega, by omega⟩ | omega)) (cwV 2 hts (lw_V q2469 q2471 qs27 q49 q2472) rfl rfl rfl hd_X4_unlock ⟨Nat.le_of_ble_eq_true rfl, Nat.le_of_ble_eq_true rfl⟩) (z_preV hK hS (zTw_le hTA hAn hS) hT.1 rfl rfl) rfl rfl hl.1 rfl (lv_room (Nat.le_of_ble_eq_true rfl)) dX4_checkIn_134 ⟨Nat.le_of_ble_eq_true rfl, Nat.le_of_ble_eq_true rfl⟩) hS (zTw_le hTA hAn hS) rfl rfl (fun H locs hT hS => ?_)
            refine lv_aload_n hx hb dX4_checkIn_137 rfl (lv_at hl 3 rfl) ?_
            refine lv_bipush (v := iI 6) hx hb dX4_checkIn_138 (by decide) ?_
            refine lv_iload_n hx hb dX4_checkIn_140 rfl (lv_at hl 4 rfl) ?_
            refine lv_iload_n hx hb dX4_checkIn_141 rfl (lv_at hl 5 rfl) ?_
            refine lv_iload_n hx hb dX4_checkIn_142 rfl (lv_at hl 6 rfl) ?_
            refine lv_iload hx hb dX4_checkIn_143 (lv_at hl 7 rfl) ?_
            refine z_join (pc2 := 153) (nL := 8) (lv := [(7, .int (iI (w 3))), (6, .int (iI (261 + 9 * tw_newestOf w a2 a3))), (5, .int (iI (bI ((tw_isPerson a1) && (tw_isBranch w a2 a3))))), (0, .ref t.1), (1, .int (iI a1)), (2, .int (iI a2)), (3, .int (iI a3)), (4, .int (iI (bI ba4)))]) (st2 := [.int (iI (bI ba4)), .int (iI a3), .int (iI a2), .int (iI a1), .int (iI 6), .ref t.1]) hS (fun J_16 => ?_) (fun locs ls hS hl => ?_)
            · refine z_ifb_eq (b := ba4) (tgt := 152) hx hb dX4_checkIn_145 (by decide) (fun c_17 => ?_) (fun c_17 => ?_)
              · refine lv_iconst (v := iI 0) hx hb dX4_checkIn_152 rfl ?_
                refine z_top (x := 0) (y := bI ba4) (by simp [bI, c_17]) ?_
                exact J_16 _ ls hS (lv_sub hl [0, 1, 2, 3, 4, 5, 6, 7] rfl)
              · refine lv_iconst (v := iI 1) hx hb dX4_checkIn_148 rfl ?_
                refine lv_goto (tgt := 153) hx hb dX4_checkIn_149 (by decide) ?_
                refine z_top (x := 1) (y := bI ba4) (by simp [bI, c_17]) ?_
                exact J_16 _ ls hS (lv_sub hl [0, 1, 2, 3, 4, 5, 6, 7] rfl)
            · refine lv_iconst (v := iI 0) hx hb dX4_checkIn_153 rfl ?_
              refine z_callmv (P := (fun H1 => zT G t (zup (tw_make w a2 a3 (w (261 + 9 * tw_newestOf w a2 a3 + 2) + bI ba4) (if ba4 = true then 0 else w (261 + 9 * tw_newestOf w a2 a3 + 3) + 1) (5 + 32 * a2 + 8 + 8 * a3 + 4)) (5 + 32 * a2 + 8 + 8 * a3 + 1) 0) kp (kL rd 0 ev lg 6 a1 a2 a3 (bI ba4) 0) (kH rd 0 ev hr ((zup (tw_make w a2 a3 (w (261 + 9 * tw_newestOf w a2 a3 + 2) + bI ba4) (if ba4 = true then 0 else w (261 + 9 * tw_newestOf w a2 a3 + 3) + 1) (5 + 32 * a2 + 8 + 8 * a3 + 4)) (5 + 32 * a2 + 8 + 8 * a3 + 1) 0) 0)) (kE rd 0 ev) rd (tw_ok3 ((tw_isPerson a1) && (tw_isBranch w a2 a3)) (((tw_isPerson a1) && (tw_isBranch w a2 a3)) && ((tw_holds w a1 a2 a3) && (decide (w 3 < 60)))) true) H1)) (vx_runV (As := [.int (iI 6), .int (iI a1), .int (iI a2), .int (iI a3), .int (iI (bI ba4)), .int (iI 0)]) (rest := []) ⟨hx, hb, hml, hown, hts⟩ (tc_keep l hT (k0 := 6) (a1 := a1) (a2 := a2) (a3 := a3) (a4 := bI ba4) (a5 := 0) (by first | with_reducible assumption | omega | exact ⟨by omega, by omega⟩ | omega) (by first | with_reducible assumption | omega | exact ⟨by omega, by omega⟩ | omega) (by first | with_reducible assumption | omega | exact ⟨by omega, by omega⟩ | omega) (by first | with_reducible assumption | omega | exact ⟨by omega, by omega⟩ | omega) (by first | with_reducible assumption | omega | exact ⟨by omega, by omega⟩ | omega) (by first | with_reducible assumption | omega | exact ⟨by omega, by omega⟩ | omega) (by first | with_reducible assumption | omega | exact ⟨by omega, by omega⟩ | omega)) (cwV 6 hts (lw_V q2376 q2378 qs13 q49 q2379) rfl rfl rfl hd_X4_keep ⟨Nat.le_of_ble_eq_true rfl, Nat.le_of_ble_eq_true rfl⟩) (z_preV hK hS (zTw_le hTA hAn hS) hT.1 rfl rfl) rfl rfl hl.1 rfl (lv_room (Nat.le_of_ble_eq_true rfl)) dX4_checkIn_154 ⟨Nat.le_of_ble_eq_true rfl, Nat.le_of_ble_eq_true rfl⟩) hS (zTw_le hTA hAn hS) rfl rfl (fun H locs hT hS => ?_)
              refine lv_iload hx hb dX4_checkIn_157 (lv_at hl 0 rfl) ?_
              exact z_iret hx hb hret rfl hlocks hS (by have hc : tC_checkIn w a1 a2 a3 ba4 = 0 := (by unfold tC_checkIn; simp only [tw_ok3_0]; first | assumption | (simp_all; done)); exact z_okend hc rfl hT) (Nat.le_of_ble_eq_true rfl) (Nat.le_of_ble_eq_true rfl) dX4_checkIn_159
      · refine lv_iconst (v := iI 0) hx hb dX4_checkIn_63 rfl ?_
        exact z_iret hx hb hret rfl hlocks hS (by have hc : ¬ tC_checkIn w a1 a2 a3 ba4 = 0 := (by unfold tC_checkIn; simp only [tw_ok3_0]; first | (simp_all; done) | assumption); exact z_noend hc hT) (Nat.le_of_ble_eq_true rfl) (Nat.le_of_ble_eq_true rfl) dX4_checkIn_64
def tC_renew (w : Int → Int) (a1 a2 a3 : Int) : Int := tw_ok3 ((tw_isPerson a1) && (tw_isBranch w a2 a3)) (((tw_isPerson a1) && (tw_isBranch w a2 a3)) && (tw_holds w a1 a2 a3)) true
def tW_renew (w : Int → Int) (a1 a2 a3 : Int) : Int → Int := zup w (5 + 32 * a2 + 8 + 8 * a3 + 2) (w 0)
def tA_renew (w : Int → Int) (a1 a2 a3 : Int) : Int := w 0 - w (5 + 32 * a2 + 8 + 8 * a3 + 2)
theorem hn_X4_renew : yX4_renew.cls ≠ "java/lang/invoke/MethodHandle" ∧ yX4_renew.cls ≠ "java/lang/invoke/VarHandle" ∧ (parseMethodDescriptor yX4_renew.desc).map (fun d => d.parameters.length) = some 3 := by decide +kernel
theorem hd_X4_renew : yX4_renew.cls = "CheckoutDeskModel" ∧ yX4_renew.cls ≠ "java/lang/invoke/MethodHandle" ∧ yX4_renew.cls ≠ "java/lang/invoke/VarHandle" ∧ (parseMethodDescriptor yX4_renew.desc).map (fun d => d.parameters.length) = some 3 := ⟨rfl, hn_X4_renew⟩
abbrev rm_X4_renew : Room := { frames := 5, cells := 0, slots := 0, locals := 102 }
set_option maxHeartbeats 1000000 in
theorem tc_renew (l : Launch) {G : zG} {t : zTau} {w kp lg hr : Int → Int} {ev rd th : Int} {H0 : Heap} (hT : zT G t w kp lg hr ev rd th H0) {a1 a2 a3 : Int} (ha1 : inR a1) (ha2 : inR a2) (ha3 : inR a3) {n_ : Int} (hI : tInv n_ w) (hn_ : n_ < 2000) (hev2 : rd = 0 → ev < 2000) : zM l yX4_renew (ws_ yX4_renew cX4_renew 7 (some .int)) rm_X4_renew G (zTw t H0) [.ref t.1, .int (iI a1), .int (iI a2), .int (iI a3)] H0 (fun r H1 => r = some (.int (iI (kA (tC_renew w a1 a2 a3) (tA_renew w a1 a2 a3)))) ∧ zT G t (kW (tC_renew w a1 a2 a3) w (tW_renew w a1 a2 a3)) kp (kL rd (tC_renew w a1 a2 a3) ev lg 7 a1 a2 a3 0 0) (kH rd (tC_renew w a1 a2 a3) ev hr (tW_renew w a1 a2 a3 0)) (kE rd (tC_renew w a1 a2 a3) ev) rd (tC_renew w a1 a2 a3) H1) (fun _ => False) := by
  refine z_enter (by decide +kernel) (Nat.le_of_ble_eq_true rfl) ?_
  intro p e s m args below meth c ls hx hb hret hml hown hts hlocks htab hnm hK hH hl
  subst hH
  have hAn : ∀ q, s.heap.size ≤ q → zTw t s.heap q := fun _ h => Or.inr h
  have hTA : ∀ q, zTA t q → zTw t s.heap q := fun _ h => Or.inl h
  have hS : va_S (zTw t s.heap) s.heap s.heap [] := va_S.rf
  have hl : lv_has ls 7 [(0, .ref t.1), (1, .int (iI a1)), (2, .int (iI a2)), (3, .int (iI a3))] := hl
  have hrd := hT.2.2.2.2.2.2.2.2.2.2.2
  have hev := hT.2.2.2.2.2.2.2.2.2.2.1
  have hwR := hT.2.2.2.2.2.2.1
  obtain ⟨hD, hV, hL, hB, hVd, hLk, hClk, hDoc, hBr, hVer, hLnk, hNew, hFr⟩ := hI
  refine lv_iload_n hx hb dX4_renew_0 rfl (lv_at hl 1 rfl) ?_
  refine z_callp (vx_runS (As := [.int (iI a1)]) (rest := []) ⟨hx, hb, hml, hown, hts⟩ (tc_isPerson l (p_ := a1) (by first | with_reducible assumption | omega | exact ⟨by omega, by omega⟩ | omega)) (va_cwS 1 hts (lw_S q2392 q2393 q49 q2394) rfl rfl rfl hn_X4_isPerson ⟨Nat.le_of_ble_eq_true rfl, Nat.le_of_ble_eq_true rfl⟩) (z_preS hK hS (zN_le hAn hS)) rfl rfl hl.1 rfl (lv_room (Nat.le_of_ble_eq_true rfl)) dX4_renew_1 ⟨Nat.le_of_ble_eq_true rfl, Nat.le_of_ble_eq_true rfl⟩) hS (zN_le hAn hS) rfl rfl (fun locs hS => ?_)
  refine z_join (pc2 := 21) (nL := 7) (lv := [(0, .ref t.1), (1, .int (iI a1)), (2, .int (iI a2)), (3, .int (iI a3))]) (st2 := [.int (iI (bI ((tw_isPerson a1) && (tw_isBranch w a2 a3))))]) hS (fun J_1 => ?_) (fun locs ls hS hl => ?_)
  · refine z_ifb_eq (b := tw_isPerson a1) (tgt := 20) hx hb dX4_renew_4 (by decide) (fun c_2 => ?_) (fun c_2 => ?_)
    · refine lv_iconst (v := iI 0) hx hb dX4_renew_20 rfl ?_
      refine z_top (x := 0) (y := bI ((tw_isPerson a1) && (tw_isBranch w a2 a3))) (by simp [bI, c_2]) ?_
      exact J_1 _ ls hS (lv_sub hl [0, 1, 2, 3] rfl)
    · refine lv_aload_n hx hb dX4_renew_7 rfl (lv_at hl 0 rfl) ?_
      refine lv_iload_n hx hb dX4_renew_8 rfl (lv_at hl 2 rfl) ?_
      refine lv_iload_n hx hb dX4_renew_9 rfl (lv_at hl 3 rfl) ?_
      refine z_callp (vx_runV (As := [.int (iI a2), .int (iI a3)]) (rest := []) ⟨hx, hb, hml, hown, hts⟩ (tc_isBranch l hT (d := a2) (b := a3) (by first | with_reducible assumption | omega | exact ⟨by omega, by omega⟩ | omega) (by first | with_reducible assumption | omega | exact ⟨by omega, by omega⟩ | omega) (by first | with_reducible assumption | omega | exact ⟨by omega, by omega⟩ | omega) (by first | with_reducible assumption | omega | exact ⟨by omega, by omega⟩ | omega)) (cwV 2 hts (lw_V q2424 q2426 qs18 q49 q2427) rfl rfl rfl hd_X4_isBranch ⟨Nat.le_of_ble_eq_true rfl, Nat.le_of_ble_eq_true rfl⟩) (z_preV hK hS (zN_le hAn hS) hT.1 rfl rfl) rfl rfl hl.1 rfl (lv_room (Nat.le_of_ble_eq_true rfl)) dX4_renew_10 ⟨Nat.le_of_ble_eq_true rfl, Nat.le_of_ble_eq_true rfl⟩) hS (zN_le hAn hS) rfl rfl (fun locs hS => ?_)
      refine z_ifb_eq (b := tw_isBranch w a2 a3) (tgt := 20) hx hb dX4_renew_13 (by decide) (fun c_3 => ?_) (fun c_3 => ?_)
      · refine lv_iconst (v := iI 0) hx hb dX4_renew_20 rfl ?_
        refine z_top (x := 0) (y := bI ((tw_isPerson a1) && (tw_isBranch w a2 a3))) (by simp [bI, c_2, c_3]) ?_
        exact J_1 _ ls hS (lv_sub hl [0, 1, 2, 3] rfl)
      · refine lv_iconst (v := iI 1) hx hb dX4_renew_16 rfl ?_
        refine lv_goto (tgt := 21) hx hb dX4_renew_17 (by decide) ?_
        refine z_top (x := 1) (y := bI ((tw_isPerson a1) && (tw_isBranch w a2 a3))) (by simp [bI, c_2, c_3]) ?_
        exact J_1 _ ls hS (lv_sub hl [0, 1, 2, 3] rfl)
  · refine lv_istore (lv' := [(4, .int (iI (bI ((tw_isPerson a1) && (tw_isBranch w a2 a3))))), (0, .ref t.1), (1, .int (iI a1)), (2, .int (iI a2)), (3, .int (iI a3))]) hx hb dX4_renew_21 hl (by decide) rfl (fun ls hl => ?_)
    refine lv_aload_n hx hb dX4_renew_23 rfl (lv_at hl 1 rfl) ?_
    refine lv_iload hx hb dX4_renew_24 (lv_at hl 0 rfl) ?_
    refine lv_iload hx hb dX4_renew_26 (lv_at hl 0 rfl) ?_
    refine z_join (pc2 := 46) (nL := 7) (lv := [(4, .int (iI (bI ((tw_isPerson a1) && (tw_isBranch w a2 a3))))), (0, .ref t.1), (1, .int (iI a1)), (2, .int (iI a2)), (3, .int (iI a3))]) (st2 := [.int (iI (bI (((tw_isPerson a1) && (tw_isBranch w a2 a3)) && (tw_holds w a1 a2 a3)))), .int (iI (bI ((tw_isPerson a1) && (tw_isBranch w a2 a3)))), .ref t.1]) hS (fun J_4 => ?_) (fun locs ls hS hl => ?_)
    · refine z_ifb_eq (b := (tw_isPerson a1) && (tw_isBranch w a2 a3)) (tgt := 45) hx hb dX4_renew_28 (by decide) (fun c_5 => ?_) (fun c_5 => ?_)
      · refine lv_iconst (v := iI 0) hx hb dX4_renew_45 rfl ?_
        refine z_top (x := 0) (y := bI (((tw_isPerson a1) && (tw_isBranch w a2 a3)) && (tw_holds w a1 a2 a3))) (by simp [bI, c_5]) ?_
        exact J_4 _ ls hS (lv_sub hl [0, 1, 2, 3, 4] rfl)
      · obtain ⟨hp, hd, hbx⟩ := tw_are3 c_5
        have hb3 := hB _ hd.1 hd.2
        obtain ⟨hho, hgv, hcp, hog, hog2, hcv⟩ := hBr _ _ hd.1 hd.2 hbx.1 hbx.2
        have hgl : inR (w (5 + 32 * a2 + 8 + 8 * a3 + 2) + w 1 - w 0) := ⟨by omega, by omega⟩
        have hnw := hNew _ _ hd.1 hd.2 hbx.1 hbx.2
        have hnR := tw_newestOf_R (d := a2) (b := a3) hV
        obtain ⟨hvb, hvj, hvn, hvt, hvv⟩ := hVer _ hnw hnR.2
        have hdoc := hDoc _ hd.1 hd.2
        refine lv_aload_n hx hb dX4_renew_31 rfl (lv_at hl 1 rfl) ?_
        refine lv_iload_n hx hb dX4_renew_32 rfl (lv_at hl 2 rfl) ?_
        refine lv_iload_n hx hb dX4_renew_33 rfl (lv_at hl 3 rfl) ?_
        refine lv_iload_n hx hb dX4_renew_34 rfl (lv_at hl 4 rfl) ?_
        refine z_callp (vx_runV (As := [.int (iI a1), .int (iI a2), .int (iI a3)]) (rest := [.int (iI (bI ((tw_isPerson a1) && (tw_isBranch w a2 a3)))), .ref t.1]) ⟨hx, hb, hml, hown, hts⟩ (tc_holds l hT (p_ := a1) (d := a2) (b := a3) (by first | with_reducible assumption | omega | exact ⟨by omega, by omega⟩ | omega) (by first | with_reducible assumption | omega | exact ⟨by omega, by omega⟩ | omega) (by first | with_reducible assumption | omega | exact ⟨by omega, by omega⟩ | omega) (by first | with_reducible assumption | omega | exact ⟨by omega, by omega⟩ | omega)) (cwV 3 hts (lw_V q2457 q2459 qs25 q49 q2460) rfl rfl rfl hd_X4_holds ⟨Nat.le_of_ble_eq_true rfl, Nat.le_of_ble_eq_true rfl⟩) (z_preV hK hS (zN_le hAn hS) hT.1 rfl rfl) rfl rfl hl.1 rfl (lv_room (Nat.le_of_ble_eq_true rfl)) dX4_renew_35 ⟨Nat.le_of_ble_eq_true rfl, Nat.le_of_ble_eq_true rfl⟩) hS (zN_le hAn hS) rfl rfl (fun locs hS => ?_)
        refine z_ifb_eq (b := tw_holds w a1 a2 a3) (tgt := 45) hx hb dX4_renew_38 (by decide) (fun c_6 => ?_) (fun c_6 => ?_)
        · refine lv_iconst (v := iI 0) hx hb dX4_renew_45 rfl ?_
          refine z_top (x := 0) (y := bI (((tw_isPerson a1) && (tw_isBranch w a2 a3)) && (tw_holds w a1 a2 a3))) (by simp [bI, c_5, c_6]) ?_
          exact J_4 _ ls hS (lv_sub hl [0, 1, 2, 3, 4] rfl)
        · refine lv_iconst (v := iI 1) hx hb dX4_renew_41 rfl ?_
          refine lv_goto (tgt := 46) hx hb dX4_renew_42 (by decide) ?_
          refine z_top (x := 1) (y := bI (((tw_isPerson a1) && (tw_isBranch w a2 a3)) && (tw_holds w a1 a2 a3))) (by simp [bI, c_5, c_6]) ?_
          exact J_4 _ ls hS (lv_sub hl [0, 1, 2, 3, 4] rfl)
    · refine z_callm (v := .int (iI (bI (((tw_isPerson a1) && (tw_isBranch w a2 a3)) && (((tw_isPerson a1) && (tw_isBranch w a2 a3)) && (tw_holds w a1 a2 a3)))))) (P := (fun H1 => zT G t w kp lg hr ev rd (tw_ok3 ((tw_isPerson a1) && (tw_isBranch w a2 a3)) (((tw_isPerson a1) && (tw_isBranch w a2 a3)) && (tw_holds w a1 a2 a3)) true) H1)) (vx_runV (As := [.int (iI (bI ((tw_isPerson a1) && (tw_isBranch w a2 a3)))), .int (iI (bI (((tw_isPerson a1) && (tw_isBranch w a2 a3)) && (tw_holds w a1 a2 a3))))]) (rest := []) ⟨hx, hb, hml, hown, hts⟩ (tc_ok l hT (ba := (tw_isPerson a1) && (tw_isBranch w a2 a3)) (bb := ((tw_isPerson a1) && (tw_isBranch w a2 a3)) && (tw_holds w a1 a2 a3))) (cwV 2 hts (lw_V q2368 q2370 qs11 q49 q2371) rfl rfl rfl hd_X4_ok ⟨Nat.le_of_ble_eq_true rfl, Nat.le_of_ble_eq_true rfl⟩) (z_preV hK hS (zTw_le hTA hAn hS) hT.1 rfl rfl) rfl rfl hl.1 rfl (lv_room (Nat.le_of_ble_eq_true rfl)) dX4_renew_46 ⟨Nat.le_of_ble_eq_true rfl, Nat.le_of_ble_eq_true rfl⟩) hS (zTw_le hTA hAn hS) rfl rfl (fun H locs hT hS => ?_)
      refine z_ifb_ne (b := ((tw_isPerson a1) && (tw_isBranch w a2 a3)) && (((tw_isPerson a1) && (tw_isBranch w a2 a3)) && (tw_holds w a1 a2 a3))) (tgt := 54) hx hb dX4_renew_49 (by decide) (fun c_7 => ?_) (fun c_7 => ?_)
      · have hc := c_7
        obtain ⟨c_are, -⟩ := Bool.and_eq_true_iff.mp hc
        obtain ⟨hp, hd, hbx⟩ := tw_are3 c_are
        have hb3 := hB _ hd.1 hd.2
        obtain ⟨hho, hgv, hcp, hog, hog2, hcv⟩ := hBr _ _ hd.1 hd.2 hbx.1 hbx.2
        have hgl : inR (w (5 + 32 * a2 + 8 + 8 * a3 + 2) + w 1 - w 0) := ⟨by omega, by omega⟩
        have hnw := hNew _ _ hd.1 hd.2 hbx.1 hbx.2
        have hnR := tw_newestOf_R (d := a2) (b := a3) hV
        obtain ⟨hvb, hvj, hvn, hvt, hvv⟩ := hVer _ hnw hnR.2
        have hdoc := hDoc _ hd.1 hd.2
        simp only [Bool.and_eq_true, Bool.or_eq_true, decide_eq_true_eq, Bool.not_eq_eq_eq_not, Bool.not_true, decide_eq_false_iff_not, Bool.not_false] at hc
        refine lv_iload_n hx hb dX4_renew_54 rfl (lv_at hl 3 rfl) ?_
        refine lv_iload_n hx hb dX4_renew_55 rfl (lv_at hl 4 rfl) ?_
        refine z_callp (vx_runS (As := [.int (iI a2), .int (iI a3)]) (rest := []) ⟨hx, hb, hml, hown, hts⟩ (tc_place l (d := a2) (b := a3)) (va_cwS 2 hts (lw_S q2398 q2399 q49 q2400) rfl rfl rfl hn_X4_place ⟨Nat.le_of_ble_eq_true rfl, Nat.le_of_ble_eq_true rfl⟩) (z_preS hK hS (zN_le hAn hS)) rfl rfl hl.1 rfl (lv_room (Nat.le_of_ble_eq_true rfl)) dX4_renew_56 ⟨Nat.le_of_ble_eq_true rfl, Nat.le_of_ble_eq_true rfl⟩) hS (zN_le hAn hS) rfl rfl (fun locs hS => ?_)
        refine lv_iconst (v := iI 2) hx hb dX4_renew_59 rfl ?_
        refine z_iadd (x := 5 + 32 * a2 + 8 + 8 * a3) (y := 2) hx hb dX4_renew_60 ?_
        refine lv_istore (lv' := [(5, .int (iI (5 + 32 * a2 + 8 + 8 * a3 + 2))), (4, .int (iI (bI ((tw_isPerson a1) && (tw_isBranch w a2 a3))))), (0, .ref t.1), (1, .int (iI a1)), (2, .int (iI a2)), (3, .int (iI a3))]) hx hb dX4_renew_61 hl (by decide) rfl (fun ls hl => ?_)
        refine lv_aload_n hx hb dX4_renew_63 rfl (lv_at hl 2 rfl) ?_
        refine z_get (k := 0) hx hb hts in_X4 hown hK hT.1 rfl (by decide) q2331 rfl (v := .ref t.2.1) rfl dX4_renew_64 ?_
        refine lv_iconst (v := iI 0) hx hb dX4_renew_67 rfl ?_
        refine z_ildZ (i := 0) (f := w) hx hb hK hT.2.1 ⟨by omega, by omega⟩ (by decide) dX4_renew_68 ?_
        have r_8 : inR (w 0) := hT.2.2.2.2.2.2.1 0
        refine lv_aload_n hx hb dX4_renew_69 rfl (lv_at hl 2 rfl) ?_
        refine z_get (k := 0) hx hb hts in_X4 hown hK hT.1 rfl (by decide) q2331 rfl (v := .ref t.2.1) rfl dX4_renew_70 ?_
        refine lv_iload hx hb dX4_renew_73 (lv_at hl 0 rfl) ?_
        refine z_ildZ (i := 5 + 32 * a2 + 8 + 8 * a3 + 2) (f := w) hx hb hK hT.2.1 ⟨by omega, by omega⟩ (by decide) dX4_renew_75 ?_
        have r_9 : inR (w (5 + 32 * a2 + 8 + 8 * a3 + 2)) := hT.2.2.2.2.2.2.1 (5 + 32 * a2 + 8 + 8 * a3 + 2)
        refine z_isub (x := w 0) (y := w (5 + 32 * a2 + 8 + 8 * a3 + 2)) hx hb dX4_renew_76 ?_
        refine lv_istore (lv' := [(6, .int (iI (w 0 - w (5 + 32 * a2 + 8 + 8 * a3 + 2)))), (5, .int (iI (5 + 32 * a2 + 8 + 8 * a3 + 2))), (4, .int (iI (bI ((tw_isPerson a1) && (tw_isBranch w a2 a3))))), (0, .ref t.1), (1, .int (iI a1)), (2, .int (iI a2)), (3, .int (iI a3))]) hx hb dX4_renew_77 hl (by decide) rfl (fun ls hl => ?_)
        refine lv_aload_n hx hb dX4_renew_79 rfl (lv_at hl 3 rfl) ?_
        refine z_get (k := 0) hx hb hts in_X4 hown hK hT.1 rfl (by decide) q2331 rfl (v := .ref t.2.1) rfl dX4_renew_80 ?_
        refine lv_iload hx hb dX4_renew_83 (lv_at hl 1 rfl) ?_
        refine lv_aload_n hx hb dX4_renew_85 rfl (lv_at hl 3 rfl) ?_
        refine z_get (k := 0) hx hb hts in_X4 hown hK hT.1 rfl (by decide) q2331 rfl (v := .ref t.2.1) rfl dX4_renew_86 ?_
        refine lv_iconst (v := iI 0) hx hb dX4_renew_89 rfl ?_
        refine z_ildZ (i := 0) (f := w) hx hb hK hT.2.1 ⟨by omega, by omega⟩ (by decide) dX4_renew_90 ?_
        have r_10 : inR (w 0) := hT.2.2.2.2.2.2.1 0
        refine zt_st (i := 5 + 32 * a2 + 8 + 8 * a3 + 2) (x := w 0) hx hb hK hT hTA hS ⟨by omega, by omega⟩ (by first | with_reducible assumption | omega | exact ⟨by omega, by omega⟩) dX4_renew_91 (fun H locs hT hS => ?_)
        refine lv_aload_n hx hb dX4_renew_92 rfl (lv_at hl 3 rfl) ?_
        refine lv_bipush (v := iI 7) hx hb dX4_renew_93 (by decide) ?_
        refine lv_iload_n hx hb dX4_renew_95 rfl (lv_at hl 4 rfl) ?_
        refine lv_iload_n hx hb dX4_renew_96 rfl (lv_at hl 5 rfl) ?_
        refine lv_iload_n hx hb dX4_renew_97 rfl (lv_at hl 6 rfl) ?_
        refine lv_iconst (v := iI 0) hx hb dX4_renew_98 rfl ?_
        refine lv_iconst (v := iI 0) hx hb dX4_renew_99 rfl ?_
        refine z_callmv (P := (fun H1 => zT G t (zup w (5 + 32 * a2 + 8 + 8 * a3 + 2) (w 0)) kp (kL rd 0 ev lg 7 a1 a2 a3 0 0) (kH rd 0 ev hr ((zup w (5 + 32 * a2 + 8 + 8 * a3 + 2) (w 0)) 0)) (kE rd 0 ev) rd (tw_ok3 ((tw_isPerson a1) && (tw_isBranch w a2 a3)) (((tw_isPerson a1) && (tw_isBranch w a2 a3)) && (tw_holds w a1 a2 a3)) true) H1)) (vx_runV (As := [.int (iI 7), .int (iI a1), .int (iI a2), .int (iI a3), .int (iI 0), .int (iI 0)]) (rest := []) ⟨hx, hb, hml, hown, hts⟩ (tc_keep l hT (k0 := 7) (a1 := a1) (a2 := a2) (a3 := a3) (a4 := 0) (a5 := 0) (by first | with_reducible assumption | omega | exact ⟨by omega, by omega⟩ | omega) (by first | with_reducible assumption | omega | exact ⟨by omega, by omega⟩ | omega) (by first | with_reducible assumption | omega | exact ⟨by omega, by omega⟩ | omega) (by first | with_reducible assumption | omega | exact ⟨by omega, by omega⟩ | omega) (by first | with_reducible assumption | omega | exact ⟨by omega, by omega⟩ | omega) (by first | with_reducible assumption | omega | exact ⟨by omega, by omega⟩ | omega) (by first | with_reducible assumption | omega | exact ⟨by omega, by omega⟩ | omega)) (cwV 6 hts (lw_V q2376 q2378 qs13 q49 q2379) rfl rfl rfl hd_X4_keep ⟨Nat.le_of_ble_eq_true rfl, Nat.le_of_ble_eq_true rfl⟩) (z_preV hK hS (zTw_le hTA hAn hS) hT.1 rfl rfl) rfl rfl hl.1 rfl (lv_room (Nat.le_of_ble_eq_true rfl)) dX4_renew_100 ⟨Nat.le_of_ble_eq_true rfl, Nat.le_of_ble_eq_true rfl⟩) hS (zTw_le hTA hAn hS) rfl rfl (fun H locs hT hS => ?_)
        refine lv_iload hx hb dX4_renew_103 (lv_at hl 0 rfl) ?_
        exact z_iret hx hb hret rfl hlocks hS (by have hc : tC_renew w a1 a2 a3 = 0 := (by unfold tC_renew; simp only [tw_ok3_0]; first | assumption | (simp_all; done)); exact z_okend hc (by first | rfl | (simp [tW_renew, zup]; done)) hT) (Nat.le_of_ble_eq_true rfl) (Nat.le_of_ble_eq_true rfl) dX4_renew_105
      · refine lv_iconst (v := iI 0) hx hb dX4_renew_52 rfl ?_
        exact z_iret hx hb hret rfl hlocks hS (by have hc : ¬ tC_renew w a1 a2 a3 = 0 := (by unfold tC_renew; simp only [tw_ok3_0]; first | (simp_all; done) | assumption); exact z_noend hc hT) (Nat.le_of_ble_eq_true rfl) (Nat.le_of_ble_eq_true rfl) dX4_renew_53
def tC_cancel (w : Int → Int) (a1 a2 a3 : Int) : Int := tw_ok3 ((tw_isPerson a1) && (tw_isBranch w a2 a3)) ((((tw_isPerson a1) && (tw_isBranch w a2 a3)) && (!(decide (tw_holderOf w a2 a3 = (-1))))) && ((tw_holds w a1 a2 a3) || (tw_owns w a1 a2))) true
def tW_cancel (w : Int → Int) (a1 a2 a3 : Int) : Int → Int := zup w (5 + 32 * a2 + 8 + 8 * a3 + 1) 0
def tA_cancel (w : Int → Int) (a1 a2 a3 : Int) : Int := tw_holderOf w a2 a3
theorem hn_X4_cancel : yX4_cancel.cls ≠ "java/lang/invoke/MethodHandle" ∧ yX4_cancel.cls ≠ "java/lang/invoke/VarHandle" ∧ (parseMethodDescriptor yX4_cancel.desc).map (fun d => d.parameters.length) = some 3 := by decide +kernel
theorem hd_X4_cancel : yX4_cancel.cls = "CheckoutDeskModel" ∧ yX4_cancel.cls ≠ "java/lang/invoke/MethodHandle" ∧ yX4_cancel.cls ≠ "java/lang/invoke/VarHandle" ∧ (parseMethodDescriptor yX4_cancel.desc).map (fun d => d.parameters.length) = some 3 := ⟨rfl, hn_X4_cancel⟩
abbrev rm_X4_cancel : Room := { frames := 5, cells := 0, slots := 0, locals := 102 }
set_option maxHeartbeats 1000000 in
theorem tc_cancel (l : Launch) {G : zG} {t : zTau} {w kp lg hr : Int → Int} {ev rd th : Int} {H0 : Heap} (hT : zT G t w kp lg hr ev rd th H0) {a1 a2 a3 : Int} (ha1 : inR a1) (ha2 : inR a2) (ha3 : inR a3) {n_ : Int} (hI : tInv n_ w) (hn_ : n_ < 2000) (hev2 : rd = 0 → ev < 2000) : zM l yX4_cancel (ws_ yX4_cancel cX4_cancel 7 (some .int)) rm_X4_cancel G (zTw t H0) [.ref t.1, .int (iI a1), .int (iI a2), .int (iI a3)] H0 (fun r H1 => r = some (.int (iI (kA (tC_cancel w a1 a2 a3) (tA_cancel w a1 a2 a3)))) ∧ zT G t (kW (tC_cancel w a1 a2 a3) w (tW_cancel w a1 a2 a3)) kp (kL rd (tC_cancel w a1 a2 a3) ev lg 8 a1 a2 a3 0 0) (kH rd (tC_cancel w a1 a2 a3) ev hr (tW_cancel w a1 a2 a3 0)) (kE rd (tC_cancel w a1 a2 a3) ev) rd (tC_cancel w a1 a2 a3) H1) (fun _ => False) := by
  refine z_enter (by decide +kernel) (Nat.le_of_ble_eq_true rfl) ?_
  intro p e s m args below meth c ls hx hb hret hml hown hts hlocks htab hnm hK hH hl
  subst hH
  have hAn : ∀ q, s.heap.size ≤ q → zTw t s.heap q := fun _ h => Or.inr h
  have hTA : ∀ q, zTA t q → zTw t s.heap q := fun _ h => Or.inl h
  have hS : va_S (zTw t s.heap) s.heap s.heap [] := va_S.rf
  have hl : lv_has ls 7 [(0, .ref t.1), (1, .int (iI a1)), (2, .int (iI a2)), (3, .int (iI a3))] := hl
  have hrd := hT.2.2.2.2.2.2.2.2.2.2.2
  have hev := hT.2.2.2.2.2.2.2.2.2.2.1
  have hwR := hT.2.2.2.2.2.2.1
  obtain ⟨hD, hV, hL, hB, hVd, hLk, hClk, hDoc, hBr, hVer, hLnk, hNew, hFr⟩ := hI
  refine lv_iload_n hx hb dX4_cancel_0 rfl (lv_at hl 1 rfl) ?_
  refine z_callp (vx_runS (As := [.int (iI a1)]) (rest := []) ⟨hx, hb, hml, hown, hts⟩ (tc_isPerson l (p_ := a1) (by first | with_reducible assumption | omega | exact ⟨by omega, by omega⟩ | omega)) (va_cwS 1 hts (lw_S q2392 q2393 q49 q2394) rfl rfl rfl hn_X4_isPerson ⟨Nat.le_of_ble_eq_true rfl, Nat.le_of_ble_eq_true rfl⟩) (z_preS hK hS (zN_le hAn hS)) rfl rfl hl.1 rfl (lv_room (Nat.le_of_ble_eq_true rfl)) dX4_cancel_1 ⟨Nat.le_of_ble_eq_true rfl, Nat.le_of_ble_eq_true rfl⟩) hS (zN_le hAn hS) rfl rfl (fun locs hS => ?_)
  refine z_join (pc2 := 21) (nL := 7) (lv := [(0, .ref t.1), (1, .int (iI a1)), (2, .int (iI a2)), (3, .int (iI a3))]) (st2 := [.int (iI (bI ((tw_isPerson a1) && (tw_isBranch w a2 a3))))]) hS (fun J_1 => ?_) (fun locs ls hS hl => ?_)
  · refine z_ifb_eq (b := tw_isPerson a1) (tgt := 20) hx hb dX4_cancel_4 (by decide) (fun c_2 => ?_) (fun c_2 => ?_)
    · refine lv_iconst (v := iI 0) hx hb dX4_cancel_20 rfl ?_
      refine z_top (x := 0) (y := bI ((tw_isPerson a1) && (tw_isBranch w a2 a3))) (by simp [bI, c_2]) ?_
      exact J_1 _ ls hS (lv_sub hl [0, 1, 2, 3] rfl)
    · refine lv_aload_n hx hb dX4_cancel_7 rfl (lv_at hl 0 rfl) ?_
      refine lv_iload_n hx hb dX4_cancel_8 rfl (lv_at hl 2 rfl) ?_
      refine lv_iload_n hx hb dX4_cancel_9 rfl (lv_at hl 3 rfl) ?_
      refine z_callp (vx_runV (As := [.int (iI a2), .int (iI a3)]) (rest := []) ⟨hx, hb, hml, hown, hts⟩ (tc_isBranch l hT (d := a2) (b := a3) (by first | with_reducible assumption | omega | exact ⟨by omega, by omega⟩ | omega) (by first | with_reducible assumption | omega | exact ⟨by omega, by omega⟩ | omega) (by first | with_reducible assumption | omega | exact ⟨by omega, by omega⟩ | omega) (by first | with_reducible assumption | omega | exact ⟨by omega, by omega⟩ | omega)) (cwV 2 hts (lw_V q2424 q2426 qs18 q49 q2427) rfl rfl rfl hd_X4_isBranch ⟨Nat.le_of_ble_eq_true rfl, Nat.le_of_ble_eq_true rfl⟩) (z_preV hK hS (zN_le hAn hS) hT.1 rfl rfl) rfl rfl hl.1 rfl (lv_room (Nat.le_of_ble_eq_true rfl)) dX4_cancel_10 ⟨Nat.le_of_ble_eq_true rfl, Nat.le_of_ble_eq_true rfl⟩) hS (zN_le hAn hS) rfl rfl (fun locs hS => ?_)
      refine z_ifb_eq (b := tw_isBranch w a2 a3) (tgt := 20) hx hb dX4_cancel_13 (by decide) (fun c_3 => ?_) (fun c_3 => ?_)
      · refine lv_iconst (v := iI 0) hx hb dX4_cancel_20 rfl ?_
        refine z_top (x := 0) (y := bI ((tw_isPerson a1) && (tw_isBranch w a2 a3))) (by simp [bI, c_2, c_3]) ?_
        exact J_1 _ ls hS (lv_sub hl [0, 1, 2, 3] rfl)
      · refine lv_iconst (v := iI 1) hx hb dX4_cancel_16 rfl ?_
        refine lv_goto (tgt := 21) hx hb dX4_cancel_17 (by decide) ?_
        refine z_top (x := 1) (y := bI ((tw_isPerson a1) && (tw_isBranch w a2 a3))) (by simp [bI, c_2, c_3]) ?_
        exact J_1 _ ls hS (lv_sub hl [0, 1, 2, 3] rfl)
  · refine lv_istore (lv' := [(4, .int (iI (bI ((tw_isPerson a1) && (tw_isBranch w a2 a3))))), (0, .ref t.1), (1, .int (iI a1)), (2, .int (iI a2)), (3, .int (iI a3))]) hx hb dX4_cancel_21 hl (by decide) rfl (fun ls hl => ?_)
    refine lv_iload hx hb dX4_cancel_23 (lv_at hl 0 rfl) ?_
    refine z_join (pc2 := 43) (nL := 7) (lv := [(4, .int (iI (bI ((tw_isPerson a1) && (tw_isBranch w a2 a3))))), (0, .ref t.1), (1, .int (iI a1)), (2, .int (iI a2)), (3, .int (iI a3))]) (st2 := [.int (iI (bI (((tw_isPerson a1) && (tw_isBranch w a2 a3)) && (!(decide (tw_holderOf w a2 a3 = (-1)))))))]) hS (fun J_4 => ?_) (fun locs ls hS hl => ?_)
    · refine z_ifb_eq (b := (tw_isPerson a1) && (tw_isBranch w a2 a3)) (tgt := 42) hx hb dX4_cancel_25 (by decide) (fun c_5 => ?_) (fun c_5 => ?_)
      · refine lv_iconst (v := iI 0) hx hb dX4_cancel_42 rfl ?_
        refine z_top (x := 0) (y := bI (((tw_isPerson a1) && (tw_isBranch w a2 a3)) && (!(decide (tw_holderOf w a2 a3 = (-1)))))) (by simp [bI, c_5]) ?_
        exact J_4 _ ls hS (lv_sub hl [0, 1, 2, 3, 4] rfl)
      · obtain ⟨hp, hd, hbx⟩ := tw_are3 c_5
        have hb3 := hB _ hd.1 hd.2
        obtain ⟨hho, hgv, hcp, hog, hog2, hcv⟩ := hBr _ _ hd.1 hd.2 hbx.1 hbx.2
        have hgl : inR (w (5 + 32 * a2 + 8 + 8 * a3 + 2) + w 1 - w 0) := ⟨by omega, by omega⟩
        have hnw := hNew _ _ hd.1 hd.2 hbx.1 hbx.2
        have hnR := tw_newestOf_R (d := a2) (b := a3) hV
        obtain ⟨hvb, hvj, hvn, hvt, hvv⟩ := hVer _ hnw hnR.2
        have hdoc := hDoc _ hd.1 hd.2
        refine lv_aload_n hx hb dX4_cancel_28 rfl (lv_at hl 1 rfl) ?_
        refine lv_iload_n hx hb dX4_cancel_29 rfl (lv_at hl 3 rfl) ?_
        refine lv_iload_n hx hb dX4_cancel_30 rfl (lv_at hl 4 rfl) ?_
        refine z_callp (vx_runV (As := [.int (iI a2), .int (iI a3)]) (rest := []) ⟨hx, hb, hml, hown, hts⟩ (tc_holderOf l hT (d := a2) (b := a3) (by first | with_reducible assumption | omega | exact ⟨by omega, by omega⟩ | omega) (by first | with_reducible assumption | omega | exact ⟨by omega, by omega⟩ | omega)) (cwV 2 hts (lw_V q2461 q2463 qs26 q49 q2464) rfl rfl rfl hd_X4_holderOf ⟨Nat.le_of_ble_eq_true rfl, Nat.le_of_ble_eq_true rfl⟩) (z_preV hK hS (zN_le hAn hS) hT.1 rfl rfl) rfl rfl hl.1 rfl (lv_room (Nat.le_of_ble_eq_true rfl)) dX4_cancel_31 ⟨Nat.le_of_ble_eq_true rfl, Nat.le_of_ble_eq_true rfl⟩) hS (zN_le hAn hS) rfl rfl (fun locs hS => ?_)
        refine lv_iconst (v := iI (-1)) hx hb dX4_cancel_34 rfl ?_
        refine z_icmp_eq (x := tw_holderOf w a2 a3) (y := (-1)) (tgt := 42) hx hb (tw_holderOf_R hT.2.2.2.2.2.2.1 (by first | assumption | omega)) (by decide) dX4_cancel_35 (by decide) (fun c_6 => ?_) (fun c_6 => ?_)
        · refine lv_iconst (v := iI 0) hx hb dX4_cancel_42 rfl ?_
          refine z_top (x := 0) (y := bI (((tw_isPerson a1) && (tw_isBranch w a2 a3)) && (!(decide (tw_holderOf w a2 a3 = (-1)))))) (by simp [bI, c_5, c_6]) ?_
          exact J_4 _ ls hS (lv_sub hl [0, 1, 2, 3, 4] rfl)
        · refine lv_iconst (v := iI 1) hx hb dX4_cancel_38 rfl ?_
          refine lv_goto (tgt := 43) hx hb dX4_cancel_39 (by decide) ?_
          refine z_top (x := 1) (y := bI (((tw_isPerson a1) && (tw_isBranch w a2 a3)) && (!(decide (tw_holderOf w a2 a3 = (-1)))))) (by simp [bI, c_5, c_6]) ?_
          exact J_4 _ ls hS (lv_sub hl [0, 1, 2, 3, 4] rfl)
    · refine lv_istore (lv' := [(5, .int (iI (bI (((tw_isPerson a1) && (tw_isBranch w a2 a3)) && (!(decide (tw_holderOf w a2 a3 = (-1)))))))), (4, .int (iI (bI ((tw_isPerson a1) && (tw_isBranch w a2 a3))))), (0, .ref t.1), (1, .int (iI a1)), (2, .int (iI a2)), (3, .int (iI a3))]) hx hb dX4_cancel_43 hl (by decide) rfl (fun ls hl => ?_)
      refine lv_aload_n hx hb dX4_cancel_45 rfl (lv_at hl 2 rfl) ?_
      refine lv_iload hx hb dX4_cancel_46 (lv_at hl 1 rfl) ?_
      refine lv_iload hx hb dX4_cancel_48 (lv_at hl 0 rfl) ?_
      refine z_join (pc2 := 77) (nL := 7) (lv := [(5, .int (iI (bI (((tw_isPerson a1) && (tw_isBranch w a2 a3)) && (!(decide (tw_holderOf w a2 a3 = (-1)))))))), (4, .int (iI (bI ((tw_isPerson a1) && (tw_isBranch w a2 a3))))), (0, .ref t.1), (1, .int (iI a1)), (2, .int (iI a2)), (3, .int (iI a3))]) (st2 := [.int (iI (bI ((((tw_isPerson a1) && (tw_isBranch w a2 a3)) && (!(decide (tw_holderOf w a2 a3 = (-1))))) && ((tw_holds w a1 a2 a3) || (tw_owns w a1 a2))))), .int (iI (bI ((tw_isPerson a1) && (tw_isBranch w a2 a3)))), .ref t.1]) hS (fun J_7 => ?_) (fun locs ls hS hl => ?_)
      · refine z_ifb_eq (b := ((tw_isPerson a1) && (tw_isBranch w a2 a3)) && (!(decide (tw_holderOf w a2 a3 = (-1))))) (tgt := 76) hx hb dX4_cancel_50 (by decide) (fun c_8 => ?_) (fun c_8 => ?_)
        · refine lv_iconst (v := iI 0) hx hb dX4_cancel_76 rfl ?_
          refine z_top (x := 0) (y := bI ((((tw_isPerson a1) && (tw_isBranch w a2 a3)) && (!(decide (tw_holderOf w a2 a3 = (-1))))) && ((tw_holds w a1 a2 a3) || (tw_owns w a1 a2)))) (by simp [bI, c_8]) ?_
          exact J_7 _ ls hS (lv_sub hl [0, 1, 2, 3, 4, 5] rfl)
        · have hc := c_8
          obtain ⟨c_are, -⟩ := Bool.and_eq_true_iff.mp hc
          obtain ⟨hp, hd, hbx⟩ := tw_are3 c_are
          have hb3 := hB _ hd.1 hd.2
          obtain ⟨hho, hgv, hcp, hog, hog2, hcv⟩ := hBr _ _ hd.1 hd.2 hbx.1 hbx.2
          have hgl : inR (w (5 + 32 * a2 + 8 + 8 * a3 + 2) + w 1 - w 0) := ⟨by omega, by omega⟩
          have hnw := hNew _ _ hd.1 hd.2 hbx.1 hbx.2
          have hnR := tw_newestOf_R (d := a2) (b := a3) hV
          obtain ⟨hvb, hvj, hvn, hvt, hvv⟩ := hVer _ hnw hnR.2
          have hdoc := hDoc _ hd.1 hd.2
          refine lv_aload_n hx hb dX4_cancel_53 rfl (lv_at hl 2 rfl) ?_
          refine lv_iload_n hx hb dX4_cancel_54 rfl (lv_at hl 3 rfl) ?_
          refine lv_iload_n hx hb dX4_cancel_55 rfl (lv_at hl 4 rfl) ?_
          refine lv_iload_n hx hb dX4_cancel_56 rfl (lv_at hl 5 rfl) ?_
          refine z_callp (vx_runV (As := [.int (iI a1), .int (iI a2), .int (iI a3)]) (rest := [.int (iI (bI ((tw_isPerson a1) && (tw_isBranch w a2 a3)))), .ref t.1]) ⟨hx, hb, hml, hown, hts⟩ (tc_holds l hT (p_ := a1) (d := a2) (b := a3) (by first | with_reducible assumption | omega | exact ⟨by omega, by omega⟩ | omega) (by first | with_reducible assumption | omega | exact ⟨by omega, by omega⟩ | omega) (by first | with_reducible assumption | omega | exact ⟨by omega, by omega⟩ | omega) (by first | with_reducible assumption | omega | exact ⟨by omega, by omega⟩ | omega)) (cwV 3 hts (lw_V q2457 q2459 qs25 q49 q2460) rfl rfl rfl hd_X4_holds ⟨Nat.le_of_ble_eq_true rfl, Nat.le_of_ble_eq_true rfl⟩) (z_preV hK hS (zN_le hAn hS) hT.1 rfl rfl) rfl rfl hl.1 rfl (lv_room (Nat.le_of_ble_eq_true rfl)) dX4_cancel_57 ⟨Nat.le_of_ble_eq_true rfl, Nat.le_of_ble_eq_true rfl⟩) hS (zN_le hAn hS) rfl rfl (fun locs hS => ?_)
          refine z_ifb_ne (b := tw_holds w a1 a2 a3) (tgt := 72) hx hb dX4_cancel_60 (by decide) (fun c_9 => ?_) (fun c_9 => ?_)
          · refine lv_iconst (v := iI 1) hx hb dX4_cancel_72 rfl ?_
            refine lv_goto (tgt := 77) hx hb dX4_cancel_73 (by decide) ?_
            refine z_top (x := 1) (y := bI ((((tw_isPerson a1) && (tw_isBranch w a2 a3)) && (!(decide (tw_holderOf w a2 a3 = (-1))))) && ((tw_holds w a1 a2 a3) || (tw_owns w a1 a2)))) (by simp [bI, c_8, c_9]) ?_
            exact J_7 _ ls hS (lv_sub hl [0, 1, 2, 3, 4, 5] rfl)
          · refine lv_aload_n hx hb dX4_cancel_63 rfl (lv_at hl 2 rfl) ?_
            refine lv_iload_n hx hb dX4_cancel_64 rfl (lv_at hl 3 rfl) ?_
            refine lv_iload_n hx hb dX4_cancel_65 rfl (lv_at hl 4 rfl) ?_
            refine z_callp (vx_runV (As := [.int (iI a1), .int (iI a2)]) (rest := [.int (iI (bI ((tw_isPerson a1) && (tw_isBranch w a2 a3)))), .ref t.1]) ⟨hx, hb, hml, hown, hts⟩ (tc_owns l hT (p_ := a1) (d := a2) (by first | with_reducible assumption | omega | exact ⟨by omega, by omega⟩ | omega) (by first | with_reducible assumption | omega | exact ⟨by omega, by omega⟩ | omega)) (cwV 2 hts (lw_V q2416 q2418 qs17 q49 q2419) rfl rfl rfl hd_X4_owns ⟨Nat.le_of_ble_eq_true rfl, Nat.le_of_ble_eq_true rfl⟩) (z_preV hK hS (zN_le hAn hS) hT.1 rfl rfl) rfl rfl hl.1 rfl (lv_room (Nat.le_of_ble_eq_true rfl)) dX4_cancel_66 ⟨Nat.le_of_ble_eq_true rfl, Nat.le_of_ble_eq_true rfl⟩) hS (zN_le hAn hS) rfl rfl (fun locs hS => ?_)
            refine z_ifb_eq (b := tw_owns w a1 a2) (tgt := 76) hx hb dX4_cancel_69 (by decide) (fun c_10 => ?_) (fun c_10 => ?_)
            · refine lv_iconst (v := iI 0) hx hb dX4_cancel_76 rfl ?_
              refine z_top (x := 0) (y := bI ((((tw_isPerson a1) && (tw_isBranch w a2 a3)) && (!(decide (tw_holderOf w a2 a3 = (-1))))) && ((tw_holds w a1 a2 a3) || (tw_owns w a1 a2)))) (by simp [bI, c_8, c_9, c_10]) ?_
              exact J_7 _ ls hS (lv_sub hl [0, 1, 2, 3, 4, 5] rfl)
            · refine lv_iconst (v := iI 1) hx hb dX4_cancel_72 rfl ?_
              refine lv_goto (tgt := 77) hx hb dX4_cancel_73 (by decide) ?_
              refine z_top (x := 1) (y := bI ((((tw_isPerson a1) && (tw_isBranch w a2 a3)) && (!(decide (tw_holderOf w a2 a3 = (-1))))) && ((tw_holds w a1 a2 a3) || (tw_owns w a1 a2)))) (by simp [bI, c_8, c_9, c_10]) ?_
              exact J_7 _ ls hS (lv_sub hl [0, 1, 2, 3, 4, 5] rfl)
      · refine z_callm (v := .int (iI (bI (((tw_isPerson a1) && (tw_isBranch w a2 a3)) && ((((tw_isPerson a1) && (tw_isBranch w a2 a3)) && (!(decide (tw_holderOf w a2 a3 = (-1))))) && ((tw_holds w a1 a2 a3) || (tw_owns w a1 a2))))))) (P := (fun H1 => zT G t w kp lg hr ev rd (tw_ok3 ((tw_isPerson a1) && (tw_isBranch w a2 a3)) ((((tw_isPerson a1) && (tw_isBranch w a2 a3)) && (!(decide (tw_holderOf w a2 a3 = (-1))))) && ((tw_holds w a1 a2 a3) || (tw_owns w a1 a2))) true) H1)) (vx_runV (As := [.int (iI (bI ((tw_isPerson a1) && (tw_isBranch w a2 a3)))), .int (iI (bI ((((tw_isPerson a1) && (tw_isBranch w a2 a3)) && (!(decide (tw_holderOf w a2 a3 = (-1))))) && ((tw_holds w a1 a2 a3) || (tw_owns w a1 a2)))))]) (rest := []) ⟨hx, hb, hml, hown, hts⟩ (tc_ok l hT (ba := (tw_isPerson a1) && (tw_isBranch w a2 a3)) (bb := (((tw_isPerson a1) && (tw_isBranch w a2 a3)) && (!(decide (tw_holderOf w a2 a3 = (-1))))) && ((tw_holds w a1 a2 a3) || (tw_owns w a1 a2)))) (cwV 2 hts (lw_V q2368 q2370 qs11 q49 q2371) rfl rfl rfl hd_X4_ok ⟨Nat.le_of_ble_eq_true rfl, Nat.le_of_ble_eq_true rfl⟩) (z_preV hK hS (zTw_le hTA hAn hS) hT.1 rfl rfl) rfl rfl hl.1 rfl (lv_room (Nat.le_of_ble_eq_true rfl)) dX4_cancel_77 ⟨Nat.le_of_ble_eq_true rfl, Nat.le_of_ble_eq_true rfl⟩) hS (zTw_le hTA hAn hS) rfl rfl (fun H locs hT hS => ?_)
        refine z_ifb_ne (b := ((tw_isPerson a1) && (tw_isBranch w a2 a3)) && ((((tw_isPerson a1) && (tw_isBranch w a2 a3)) && (!(decide (tw_holderOf w a2 a3 = (-1))))) && ((tw_holds w a1 a2 a3) || (tw_owns w a1 a2)))) (tgt := 85) hx hb dX4_cancel_80 (by decide) (fun c_11 => ?_) (fun c_11 => ?_)
        · have hc := c_11
          obtain ⟨c_are, -⟩ := Bool.and_eq_true_iff.mp hc
          obtain ⟨hp, hd, hbx⟩ := tw_are3 c_are
          have hb3 := hB _ hd.1 hd.2
          obtain ⟨hho, hgv, hcp, hog, hog2, hcv⟩ := hBr _ _ hd.1 hd.2 hbx.1 hbx.2
          have hgl : inR (w (5 + 32 * a2 + 8 + 8 * a3 + 2) + w 1 - w 0) := ⟨by omega, by omega⟩
          have hnw := hNew _ _ hd.1 hd.2 hbx.1 hbx.2
          have hnR := tw_newestOf_R (d := a2) (b := a3) hV
          obtain ⟨hvb, hvj, hvn, hvt, hvv⟩ := hVer _ hnw hnR.2
          have hdoc := hDoc _ hd.1 hd.2
          simp only [Bool.and_eq_true, Bool.or_eq_true, decide_eq_true_eq, Bool.not_eq_eq_eq_not, Bool.not_true, decide_eq_false_iff_not, Bool.not_false] at hc
          refine lv_aload_n hx hb dX4_cancel_85 rfl (lv_at hl 2 rfl) ?_
          refine lv_iload_n hx hb dX4_cancel_86 rfl (lv_at hl 4 rfl) ?_
          refine lv_iload_n hx hb dX4_cancel_87 rfl (lv_at hl 5 rfl) ?_
          refine z_callp (vx_runV (As := [.int (iI a2), .int (iI a3)]) (rest := []) ⟨hx, hb, hml, hown, hts⟩ (tc_holderOf l hT (d := a2) (b := a3) (by first | with_reducible assumption | omega | exact ⟨by omega, by omega⟩ | omega) (by first | with_reducible assumption | omega | exact ⟨by omega, by omega⟩ | omega)) (cwV 2 hts (lw_V q2461 q2463 qs26 q49 q2464) rfl rfl rfl hd_X4_holderOf ⟨Nat.le_of_ble_eq_true rfl, Nat.le_of_ble_eq_true rfl⟩) (z_preV hK hS (zN_le hAn hS) hT.1 rfl rfl) rfl rfl hl.1 rfl (lv_room (Nat.le_of_ble_eq_true rfl)) dX4_cancel_88 ⟨Nat.le_of_ble_eq_true rfl, Nat.le_of_ble_eq_true rfl⟩) hS (zN_le hAn hS) rfl rfl (fun locs hS => ?_)
          refine lv_istore (lv' := [(6, .int (iI (tw_holderOf w a2 a3))), (5, .int (iI (bI (((tw_isPerson a1) && (tw_isBranch w a2 a3)) && (!(decide (tw_holderOf w a2 a3 = (-1)))))))), (4, .int (iI (bI ((tw_isPerson a1) && (tw_isBranch w a2 a3))))), (0, .ref t.1), (1, .int (iI a1)), (2, .int (iI a2)), (3, .int (iI a3))]) hx hb dX4_cancel_91 hl (by decide) rfl (fun ls hl => ?_)
          refine lv_aload_n hx hb dX4_cancel_93 rfl (lv_at hl 3 rfl) ?_
          refine lv_iload_n hx hb dX4_cancel_94 rfl (lv_at hl 5 rfl) ?_
          refine lv_iload_n hx hb dX4_cancel_95 rfl (lv_at hl 6 rfl) ?_
          refine z_callmv (P := (fun H1 => zT G t (zup w (5 + 32 * a2 + 8 + 8 * a3 + 1) 0) kp lg hr ev rd (tw_ok3 ((tw_isPerson a1) && (tw_isBranch w a2 a3)) ((((tw_isPerson a1) && (tw_isBranch w a2 a3)) && (!(decide (tw_holderOf w a2 a3 = (-1))))) && ((tw_holds w a1 a2 a3) || (tw_owns w a1 a2))) true) H1)) (vx_runV (As := [.int (iI a2), .int (iI a3)]) (rest := []) ⟨hx, hb, hml, hown, hts⟩ (tc_unlock l hT (d := a2) (b := a3) (by first | with_reducible assumption | omega | exact ⟨by omega, by omega⟩ | omega) (by first | with_reducible assumption | omega | exact ⟨by omega, by omega⟩ | omega)) (cwV 2 hts (lw_V q2469 q2471 qs27 q49 q2472) rfl rfl rfl hd_X4_unlock ⟨Nat.le_of_ble_eq_true rfl, Nat.le_of_ble_eq_true rfl⟩) (z_preV hK hS (zTw_le hTA hAn hS) hT.1 rfl rfl) rfl rfl hl.1 rfl (lv_room (Nat.le_of_ble_eq_true rfl)) dX4_cancel_96 ⟨Nat.le_of_ble_eq_true rfl, Nat.le_of_ble_eq_true rfl⟩) hS (zTw_le hTA hAn hS) rfl rfl (fun H locs hT hS => ?_)
          refine lv_aload_n hx hb dX4_cancel_99 rfl (lv_at hl 3 rfl) ?_
          refine lv_bipush (v := iI 8) hx hb dX4_cancel_100 (by decide) ?_
          refine lv_iload_n hx hb dX4_cancel_102 rfl (lv_at hl 4 rfl) ?_
          refine lv_iload_n hx hb dX4_cancel_103 rfl (lv_at hl 5 rfl) ?_
          refine lv_iload_n hx hb dX4_cancel_104 rfl (lv_at hl 6 rfl) ?_
          refine lv_iconst (v := iI 0) hx hb dX4_cancel_105 rfl ?_
          refine lv_iconst (v := iI 0) hx hb dX4_cancel_106 rfl ?_
          refine z_callmv (P := (fun H1 => zT G t (zup w (5 + 32 * a2 + 8 + 8 * a3 + 1) 0) kp (kL rd 0 ev lg 8 a1 a2 a3 0 0) (kH rd 0 ev hr ((zup w (5 + 32 * a2 + 8 + 8 * a3 + 1) 0) 0)) (kE rd 0 ev) rd (tw_ok3 ((tw_isPerson a1) && (tw_isBranch w a2 a3)) ((((tw_isPerson a1) && (tw_isBranch w a2 a3)) && (!(decide (tw_holderOf w a2 a3 = (-1))))) && ((tw_holds w a1 a2 a3) || (tw_owns w a1 a2))) true) H1)) (vx_runV (As := [.int (iI 8), .int (iI a1), .int (iI a2), .int (iI a3), .int (iI 0), .int (iI 0)]) (rest := []) ⟨hx, hb, hml, hown, hts⟩ (tc_keep l hT (k0 := 8) (a1 := a1) (a2 := a2) (a3 := a3) (a4 := 0) (a5 := 0) (by first | with_reducible assumption | omega | exact ⟨by omega, by omega⟩ | omega) (by first | with_reducible assumption | omega | exact ⟨by omega, by omega⟩ | omega) (by first | with_reducible assumption | omega | exact ⟨by omega, by omega⟩ | omega) (by first | with_reducible assumption | omega | exact ⟨by omega, by omega⟩ | omega) (by first | with_reducible assumption | omega | exact ⟨by omega, by omega⟩ | omega) (by first | with_reducible assumption | omega | exact ⟨by omega, by omega⟩ | omega) (by first | with_reducible assumption | omega | exact ⟨by omega, by omega⟩ | omega)) (cwV 6 hts (lw_V q2376 q2378 qs13 q49 q2379) rfl rfl rfl hd_X4_keep ⟨Nat.le_of_ble_eq_true rfl, Nat.le_of_ble_eq_true rfl⟩) (z_preV hK hS (zTw_le hTA hAn hS) hT.1 rfl rfl) rfl rfl hl.1 rfl (lv_room (Nat.le_of_ble_eq_true rfl)) dX4_cancel_107 ⟨Nat.le_of_ble_eq_true rfl, Nat.le_of_ble_eq_true rfl⟩) hS (zTw_le hTA hAn hS) rfl rfl (fun H locs hT hS => ?_)
          refine lv_iload hx hb dX4_cancel_110 (lv_at hl 0 rfl) ?_
          exact z_iret hx hb hret rfl hlocks hS (by have hc : tC_cancel w a1 a2 a3 = 0 := (by unfold tC_cancel; simp only [tw_ok3_0]; first | assumption | (simp_all; done)); exact z_okend hc (by first | rfl | (simp [tW_cancel, zup]; done)) hT) (Nat.le_of_ble_eq_true rfl) (Nat.le_of_ble_eq_true rfl) dX4_cancel_112
        · refine lv_iconst (v := iI 0) hx hb dX4_cancel_83 rfl ?_
          exact z_iret hx hb hret rfl hlocks hS (by have hc : ¬ tC_cancel w a1 a2 a3 = 0 := (by unfold tC_cancel; simp only [tw_ok3_0]; first | (simp_all; done) | assumption); exact z_noend hc hT) (Nat.le_of_ble_eq_true rfl) (Nat.le_of_ble_eq_true rfl) dX4_cancel_84
def tw_pn (w : Int → Int) (a1 a2 a3 : Int) : Int := if (tw_isPerson a1 && tw_isBranch w a2 a3) = true then tw_newestOf w a2 a3 else -1
def tC_promote (w : Int → Int) (a1 a2 a3 : Int) : Int := tw_ok3 ((tw_isPerson a1) && (tw_isBranch w a2 a3)) ((((tw_isPerson a1) && (tw_isBranch w a2 a3)) && ((decide (tw_holderOf w a2 a3 = (-1))) && (!(tw_isReleased w (tw_pn w a1 a2 a3))))) && (tw_writes w a1 a2)) true
def tW_promote (w : Int → Int) (a1 a2 a3 : Int) : Int → Int := zup (zup w (261 + 9 * tw_pn w a1 a2 a3 + 2) (w (261 + 9 * tw_pn w a1 a2 a3 + 2) + 1)) (261 + 9 * tw_pn w a1 a2 a3 + 3) 0
def tA_promote (w : Int → Int) (a1 a2 a3 : Int) : Int := tw_pn w a1 a2 a3
theorem hn_X4_promote : yX4_promote.cls ≠ "java/lang/invoke/MethodHandle" ∧ yX4_promote.cls ≠ "java/lang/invoke/VarHandle" ∧ (parseMethodDescriptor yX4_promote.desc).map (fun d => d.parameters.length) = some 3 := by decide +kernel
theorem hd_X4_promote : yX4_promote.cls = "CheckoutDeskModel" ∧ yX4_promote.cls ≠ "java/lang/invoke/MethodHandle" ∧ yX4_promote.cls ≠ "java/lang/invoke/VarHandle" ∧ (parseMethodDescriptor yX4_promote.desc).map (fun d => d.parameters.length) = some 3 := ⟨rfl, hn_X4_promote⟩
abbrev rm_X4_promote : Room := { frames := 4, cells := 0, slots := 0, locals := 84 }
set_option maxHeartbeats 1000000 in
theorem tc_promote (l : Launch) {G : zG} {t : zTau} {w kp lg hr : Int → Int} {ev rd th : Int} {H0 : Heap} (hT : zT G t w kp lg hr ev rd th H0) {a1 a2 a3 : Int} (ha1 : inR a1) (ha2 : inR a2) (ha3 : inR a3) {n_ : Int} (hI : tInv n_ w) (hn_ : n_ < 2000) (hev2 : rd = 0 → ev < 2000) : zM l yX4_promote (ws_ yX4_promote cX4_promote 7 (some .int)) rm_X4_promote G (zTw t H0) [.ref t.1, .int (iI a1), .int (iI a2), .int (iI a3)] H0 (fun r H1 => r = some (.int (iI (kA (tC_promote w a1 a2 a3) (tA_promote w a1 a2 a3)))) ∧ zT G t (kW (tC_promote w a1 a2 a3) w (tW_promote w a1 a2 a3)) kp (kL rd (tC_promote w a1 a2 a3) ev lg 9 a1 a2 a3 0 0) (kH rd (tC_promote w a1 a2 a3) ev hr (tW_promote w a1 a2 a3 0)) (kE rd (tC_promote w a1 a2 a3) ev) rd (tC_promote w a1 a2 a3) H1) (fun _ => False) := by
  refine z_enter (by decide +kernel) (Nat.le_of_ble_eq_true rfl) ?_
  intro p e s m args below meth c ls hx hb hret hml hown hts hlocks htab hnm hK hH hl
  subst hH
  have hAn : ∀ q, s.heap.size ≤ q → zTw t s.heap q := fun _ h => Or.inr h
  have hTA : ∀ q, zTA t q → zTw t s.heap q := fun _ h => Or.inl h
  have hS : va_S (zTw t s.heap) s.heap s.heap [] := va_S.rf
  have hl : lv_has ls 7 [(0, .ref t.1), (1, .int (iI a1)), (2, .int (iI a2)), (3, .int (iI a3))] := hl
  have hrd := hT.2.2.2.2.2.2.2.2.2.2.2
  have hev := hT.2.2.2.2.2.2.2.2.2.2.1
  have hwR := hT.2.2.2.2.2.2.1
  obtain ⟨hD, hV, hL, hB, hVd, hLk, hClk, hDoc, hBr, hVer, hLnk, hNew, hFr⟩ := hI
  refine lv_iload_n hx hb dX4_promote_0 rfl (lv_at hl 1 rfl) ?_
  refine z_callp (vx_runS (As := [.int (iI a1)]) (rest := []) ⟨hx, hb, hml, hown, hts⟩ (tc_isPerson l (p_ := a1) (by first | with_reducible assumption | omega | exact ⟨by omega, by omega⟩ | omega)) (va_cwS 1 hts (lw_S q2392 q2393 q49 q2394) rfl rfl rfl hn_X4_isPerson ⟨Nat.le_of_ble_eq_true rfl, Nat.le_of_ble_eq_true rfl⟩) (z_preS hK hS (zN_le hAn hS)) rfl rfl hl.1 rfl (lv_room (Nat.le_of_ble_eq_true rfl)) dX4_promote_1 ⟨Nat.le_of_ble_eq_true rfl, Nat.le_of_ble_eq_true rfl⟩) hS (zN_le hAn hS) rfl rfl (fun locs hS => ?_)
  refine z_join (pc2 := 21) (nL := 7) (lv := [(0, .ref t.1), (1, .int (iI a1)), (2, .int (iI a2)), (3, .int (iI a3))]) (st2 := [.int (iI (bI ((tw_isPerson a1) && (tw_isBranch w a2 a3))))]) hS (fun J_1 => ?_) (fun locs ls hS hl => ?_)
  · refine z_ifb_eq (b := tw_isPerson a1) (tgt := 20) hx hb dX4_promote_4 (by decide) (fun c_2 => ?_) (fun c_2 => ?_)
    · refine lv_iconst (v := iI 0) hx hb dX4_promote_20 rfl ?_
      refine z_top (x := 0) (y := bI ((tw_isPerson a1) && (tw_isBranch w a2 a3))) (by simp [bI, c_2]) ?_
      exact J_1 _ ls hS (lv_sub hl [0, 1, 2, 3] rfl)
    · refine lv_aload_n hx hb dX4_promote_7 rfl (lv_at hl 0 rfl) ?_
      refine lv_iload_n hx hb dX4_promote_8 rfl (lv_at hl 2 rfl) ?_
      refine lv_iload_n hx hb dX4_promote_9 rfl (lv_at hl 3 rfl) ?_
      refine z_callp (vx_runV (As := [.int (iI a2), .int (iI a3)]) (rest := []) ⟨hx, hb, hml, hown, hts⟩ (tc_isBranch l hT (d := a2) (b := a3) (by first | with_reducible assumption | omega | exact ⟨by omega, by omega⟩ | omega) (by first | with_reducible assumption | omega | exact ⟨by omega, by omega⟩ | omega) (by first | with_reducible assumption | omega | exact ⟨by omega, by omega⟩ | omega) (by first | with_reducible assumption | omega | exact ⟨by omega, by omega⟩ | omega)) (cwV 2 hts (lw_V q2424 q2426 qs18 q49 q2427) rfl rfl rfl hd_X4_isBranch ⟨Nat.le_of_ble_eq_true rfl, Nat.le_of_ble_eq_true rfl⟩) (z_preV hK hS (zN_le hAn hS) hT.1 rfl rfl) rfl rfl hl.1 rfl (lv_room (Nat.le_of_ble_eq_true rfl)) dX4_promote_10 ⟨Nat.le_of_ble_eq_true rfl, Nat.le_of_ble_eq_true rfl⟩) hS (zN_le hAn hS) rfl rfl (fun locs hS => ?_)
      refine z_ifb_eq (b := tw_isBranch w a2 a3) (tgt := 20) hx hb dX4_promote_13 (by decide) (fun c_3 => ?_) (fun c_3 => ?_)
      · refine lv_iconst (v := iI 0) hx hb dX4_promote_20 rfl ?_
        refine z_top (x := 0) (y := bI ((tw_isPerson a1) && (tw_isBranch w a2 a3))) (by simp [bI, c_2, c_3]) ?_
        exact J_1 _ ls hS (lv_sub hl [0, 1, 2, 3] rfl)
      · refine lv_iconst (v := iI 1) hx hb dX4_promote_16 rfl ?_
        refine lv_goto (tgt := 21) hx hb dX4_promote_17 (by decide) ?_
        refine z_top (x := 1) (y := bI ((tw_isPerson a1) && (tw_isBranch w a2 a3))) (by simp [bI, c_2, c_3]) ?_
        exact J_1 _ ls hS (lv_sub hl [0, 1, 2, 3] rfl)
  · refine lv_istore (lv' := [(4, .int (iI (bI ((tw_isPerson a1) && (tw_isBranch w a2 a3))))), (0, .ref t.1), (1, .int (iI a1)), (2, .int (iI a2)), (3, .int (iI a3))]) hx hb dX4_promote_21 hl (by decide) rfl (fun ls hl => ?_)
    refine lv_iload hx hb dX4_promote_23 (lv_at hl 0 rfl) ?_
    refine z_join (pc2 := 38) (nL := 7) (lv := [(4, .int (iI (bI ((tw_isPerson a1) && (tw_isBranch w a2 a3))))), (0, .ref t.1), (1, .int (iI a1)), (2, .int (iI a2)), (3, .int (iI a3))]) (st2 := [.int (iI (tw_pn w a1 a2 a3))]) hS (fun J_4 => ?_) (fun locs ls hS hl => ?_)
    · refine z_ifb_eq (b := (tw_isPerson a1) && (tw_isBranch w a2 a3)) (tgt := 37) hx hb dX4_promote_25 (by decide) (fun c_5 => ?_) (fun c_5 => ?_)
      · refine lv_iconst (v := iI (-1)) hx hb dX4_promote_37 rfl ?_
        refine z_top (x := (-1)) (y := tw_pn w a1 a2 a3) (by simp [tw_pn, c_5]) ?_
        exact J_4 _ ls hS (lv_sub hl [0, 1, 2, 3, 4] rfl)
      · obtain ⟨hp, hd, hbx⟩ := tw_are3 c_5
        have hb3 := hB _ hd.1 hd.2
        obtain ⟨hho, hgv, hcp, hog, hog2, hcv⟩ := hBr _ _ hd.1 hd.2 hbx.1 hbx.2
        have hgl : inR (w (5 + 32 * a2 + 8 + 8 * a3 + 2) + w 1 - w 0) := ⟨by omega, by omega⟩
        have hnw := hNew _ _ hd.1 hd.2 hbx.1 hbx.2
        have hnR := tw_newestOf_R (d := a2) (b := a3) hV
        obtain ⟨hvb, hvj, hvn, hvt, hvv⟩ := hVer _ hnw hnR.2
        have hdoc := hDoc _ hd.1 hd.2
        refine lv_aload_n hx hb dX4_promote_28 rfl (lv_at hl 1 rfl) ?_
        refine lv_iload_n hx hb dX4_promote_29 rfl (lv_at hl 3 rfl) ?_
        refine lv_iload_n hx hb dX4_promote_30 rfl (lv_at hl 4 rfl) ?_
        refine z_callp (vx_runV (As := [.int (iI a2), .int (iI a3)]) (rest := []) ⟨hx, hb, hml, hown, hts⟩ (tc_newestOf l hT (d := a2) (b := a3) (by first | with_reducible assumption | omega | exact ⟨by omega, by omega⟩ | omega) (by first | with_reducible assumption | omega | exact ⟨by omega, by omega⟩ | omega) (by first | with_reducible assumption | omega | exact ⟨by omega, by omega⟩ | omega)) (cwV 2 hts (lw_V q2441 q2443 qs22 q49 q2444) rfl rfl rfl hd_X4_newestOf ⟨Nat.le_of_ble_eq_true rfl, Nat.le_of_ble_eq_true rfl⟩) (z_preV hK hS (zN_le hAn hS) hT.1 rfl rfl) rfl rfl hl.1 rfl (lv_room (Nat.le_of_ble_eq_true rfl)) dX4_promote_31 ⟨Nat.le_of_ble_eq_true rfl, Nat.le_of_ble_eq_true rfl⟩) hS (zN_le hAn hS) rfl rfl (fun locs hS => ?_)
        refine lv_goto (tgt := 38) hx hb dX4_promote_34 (by decide) ?_
        refine z_top (x := tw_newestOf w a2 a3) (y := tw_pn w a1 a2 a3) (by simp [tw_pn, c_5]) ?_
        exact J_4 _ ls hS (lv_sub hl [0, 1, 2, 3, 4] rfl)
    · refine lv_istore (lv' := [(5, .int (iI (tw_pn w a1 a2 a3))), (4, .int (iI (bI ((tw_isPerson a1) && (tw_isBranch w a2 a3))))), (0, .ref t.1), (1, .int (iI a1)), (2, .int (iI a2)), (3, .int (iI a3))]) hx hb dX4_promote_38 hl (by decide) rfl (fun ls hl => ?_)
      refine lv_iload hx hb dX4_promote_40 (lv_at hl 1 rfl) ?_
      refine z_join (pc2 := 69) (nL := 7) (lv := [(5, .int (iI (tw_pn w a1 a2 a3))), (4, .int (iI (bI ((tw_isPerson a1) && (tw_isBranch w a2 a3))))), (0, .ref t.1), (1, .int (iI a1)), (2, .int (iI a2)), (3, .int (iI a3))]) (st2 := [.int (iI (bI (((tw_isPerson a1) && (tw_isBranch w a2 a3)) && ((decide (tw_holderOf w a2 a3 = (-1))) && (!(tw_isReleased w (tw_pn w a1 a2 a3)))))))]) hS (fun J_6 => ?_) (fun locs ls hS hl => ?_)
      · refine z_ifb_eq (b := (tw_isPerson a1) && (tw_isBranch w a2 a3)) (tgt := 68) hx hb dX4_promote_42 (by decide) (fun c_7 => ?_) (fun c_7 => ?_)
        · refine lv_iconst (v := iI 0) hx hb dX4_promote_68 rfl ?_
          refine z_top (x := 0) (y := bI (((tw_isPerson a1) && (tw_isBranch w a2 a3)) && ((decide (tw_holderOf w a2 a3 = (-1))) && (!(tw_isReleased w (tw_pn w a1 a2 a3)))))) (by simp [bI, c_7]) ?_
          exact J_6 _ ls hS (lv_sub hl [0, 1, 2, 3, 4, 5] rfl)
        · obtain ⟨hp, hd, hbx⟩ := tw_are3 c_7
          have hb3 := hB _ hd.1 hd.2
          obtain ⟨hho, hgv, hcp, hog, hog2, hcv⟩ := hBr _ _ hd.1 hd.2 hbx.1 hbx.2
          have hgl : inR (w (5 + 32 * a2 + 8 + 8 * a3 + 2) + w 1 - w 0) := ⟨by omega, by omega⟩
          have hnw := hNew _ _ hd.1 hd.2 hbx.1 hbx.2
          have hnR := tw_newestOf_R (d := a2) (b := a3) hV
          obtain ⟨hvb, hvj, hvn, hvt, hvv⟩ := hVer _ hnw hnR.2
          have hdoc := hDoc _ hd.1 hd.2
          have hpn : tw_pn w a1 a2 a3 = tw_newestOf w a2 a3 := if_pos c_7
          rw [← hpn] at hnw hnR hvj hvn
          refine lv_aload_n hx hb dX4_promote_45 rfl (lv_at hl 2 rfl) ?_
          refine lv_iload_n hx hb dX4_promote_46 rfl (lv_at hl 4 rfl) ?_
          refine lv_iload_n hx hb dX4_promote_47 rfl (lv_at hl 5 rfl) ?_
          refine z_callp (vx_runV (As := [.int (iI a2), .int (iI a3)]) (rest := []) ⟨hx, hb, hml, hown, hts⟩ (tc_holderOf l hT (d := a2) (b := a3) (by first | with_reducible assumption | omega | exact ⟨by omega, by omega⟩ | omega) (by first | with_reducible assumption | omega | exact ⟨by omega, by omega⟩ | omega)) (cwV 2 hts (lw_V q2461 q2463 qs26 q49 q2464) rfl rfl rfl hd_X4_holderOf ⟨Nat.le_of_ble_eq_true rfl, Nat.le_of_ble_eq_true rfl⟩) (z_preV hK hS (zN_le hAn hS) hT.1 rfl rfl) rfl rfl hl.1 rfl (lv_room (Nat.le_of_ble_eq_true rfl)) dX4_promote_48 ⟨Nat.le_of_ble_eq_true rfl, Nat.le_of_ble_eq_true rfl⟩) hS (zN_le hAn hS) rfl rfl (fun locs hS => ?_)
          refine lv_iconst (v := iI (-1)) hx hb dX4_promote_51 rfl ?_
          refine z_icmp_ne (x := tw_holderOf w a2 a3) (y := (-1)) (tgt := 68) hx hb (tw_holderOf_R hT.2.2.2.2.2.2.1 (by first | assumption | omega)) (by decide) dX4_promote_52 (by decide) (fun c_8 => ?_) (fun c_8 => ?_)
          · refine lv_iconst (v := iI 0) hx hb dX4_promote_68 rfl ?_
            refine z_top (x := 0) (y := bI (((tw_isPerson a1) && (tw_isBranch w a2 a3)) && ((decide (tw_holderOf w a2 a3 = (-1))) && (!(tw_isReleased w (tw_pn w a1 a2 a3)))))) (by simp [bI, c_7, c_8]) ?_
            exact J_6 _ ls hS (lv_sub hl [0, 1, 2, 3, 4, 5] rfl)
          · refine lv_aload_n hx hb dX4_promote_55 rfl (lv_at hl 2 rfl) ?_
            refine lv_iload hx hb dX4_promote_56 (lv_at hl 0 rfl) ?_
            refine z_callp (vx_runV (As := [.int (iI (tw_pn w a1 a2 a3))]) (rest := []) ⟨hx, hb, hml, hown, hts⟩ (tc_isReleased l hT (v := tw_pn w a1 a2 a3) (by first | with_reducible assumption | omega | exact ⟨by omega, by omega⟩ | omega)) (cwV 1 hts (lw_V q2485 q2487 qs28 q49 q2488) rfl rfl rfl hd_X4_isReleased ⟨Nat.le_of_ble_eq_true rfl, Nat.le_of_ble_eq_true rfl⟩) (z_preV hK hS (zN_le hAn hS) hT.1 rfl rfl) rfl rfl hl.1 rfl (lv_room (Nat.le_of_ble_eq_true rfl)) dX4_promote_58 ⟨Nat.le_of_ble_eq_true rfl, Nat.le_of_ble_eq_true rfl⟩) hS (zN_le hAn hS) rfl rfl (fun locs hS => ?_)
            refine z_ifb_ne (b := tw_isReleased w (tw_pn w a1 a2 a3)) (tgt := 68) hx hb dX4_promote_61 (by decide) (fun c_9 => ?_) (fun c_9 => ?_)
            · refine lv_iconst (v := iI 0) hx hb dX4_promote_68 rfl ?_
              refine z_top (x := 0) (y := bI (((tw_isPerson a1) && (tw_isBranch w a2 a3)) && ((decide (tw_holderOf w a2 a3 = (-1))) && (!(tw_isReleased w (tw_pn w a1 a2 a3)))))) (by simp [bI, c_7, c_8, c_9]) ?_
              exact J_6 _ ls hS (lv_sub hl [0, 1, 2, 3, 4, 5] rfl)
            · refine lv_iconst (v := iI 1) hx hb dX4_promote_64 rfl ?_
              refine lv_goto (tgt := 69) hx hb dX4_promote_65 (by decide) ?_
              refine z_top (x := 1) (y := bI (((tw_isPerson a1) && (tw_isBranch w a2 a3)) && ((decide (tw_holderOf w a2 a3 = (-1))) && (!(tw_isReleased w (tw_pn w a1 a2 a3)))))) (by simp [bI, c_7, c_8, c_9]) ?_
              exact J_6 _ ls hS (lv_sub hl [0, 1, 2, 3, 4, 5] rfl)
      · refine lv_istore (lv' := [(6, .int (iI (bI (((tw_isPerson a1) && (tw_isBranch w a2 a3)) && ((decide (tw_holderOf w a2 a3 = (-1))) && (!(tw_isReleased w (tw_pn w a1 a2 a3)))))))), (5, .int (iI (tw_pn w a1 a2 a3))), (4, .int (iI (bI ((tw_isPerson a1) && (tw_isBranch w a2 a3))))), (0, .ref t.1), (1, .int (iI a1)), (2, .int (iI a2)), (3, .int (iI a3))]) hx hb dX4_promote_69 hl (by decide) rfl (fun ls hl => ?_)
        refine lv_aload_n hx hb dX4_promote_71 rfl (lv_at hl 3 rfl) ?_
        refine lv_iload hx hb dX4_promote_72 (lv_at hl 2 rfl) ?_
        refine lv_iload hx hb dX4_promote_74 (lv_at hl 0 rfl) ?_
        refine z_join (pc2 := 93) (nL := 7) (lv := [(6, .int (iI (bI (((tw_isPerson a1) && (tw_isBranch w a2 a3)) && ((decide (tw_holderOf w a2 a3 = (-1))) && (!(tw_isReleased w (tw_pn w a1 a2 a3)))))))), (5, .int (iI (tw_pn w a1 a2 a3))), (4, .int (iI (bI ((tw_isPerson a1) && (tw_isBranch w a2 a3))))), (0, .ref t.1), (1, .int (iI a1)), (2, .int (iI a2)), (3, .int (iI a3))]) (st2 := [.int (iI (bI ((((tw_isPerson a1) && (tw_isBranch w a2 a3)) && ((decide (tw_holderOf w a2 a3 = (-1))) && (!(tw_isReleased w (tw_pn w a1 a2 a3))))) && (tw_writes w a1 a2)))), .int (iI (bI ((tw_isPerson a1) && (tw_isBranch w a2 a3)))), .ref t.1]) hS (fun J_10 => ?_) (fun locs ls hS hl => ?_)
        · refine z_ifb_eq (b := ((tw_isPerson a1) && (tw_isBranch w a2 a3)) && ((decide (tw_holderOf w a2 a3 = (-1))) && (!(tw_isReleased w (tw_pn w a1 a2 a3))))) (tgt := 92) hx hb dX4_promote_76 (by decide) (fun c_11 => ?_) (fun c_11 => ?_)
          · refine lv_iconst (v := iI 0) hx hb dX4_promote_92 rfl ?_
            refine z_top (x := 0) (y := bI ((((tw_isPerson a1) && (tw_isBranch w a2 a3)) && ((decide (tw_holderOf w a2 a3 = (-1))) && (!(tw_isReleased w (tw_pn w a1 a2 a3))))) && (tw_writes w a1 a2))) (by simp [bI, c_11]) ?_
            exact J_10 _ ls hS (lv_sub hl [0, 1, 2, 3, 4, 5, 6] rfl)
          · have hc := c_11
            obtain ⟨c_are, -⟩ := Bool.and_eq_true_iff.mp hc
            obtain ⟨hp, hd, hbx⟩ := tw_are3 c_are
            have hb3 := hB _ hd.1 hd.2
            obtain ⟨hho, hgv, hcp, hog, hog2, hcv⟩ := hBr _ _ hd.1 hd.2 hbx.1 hbx.2
            have hgl : inR (w (5 + 32 * a2 + 8 + 8 * a3 + 2) + w 1 - w 0) := ⟨by omega, by omega⟩
            have hnw := hNew _ _ hd.1 hd.2 hbx.1 hbx.2
            have hnR := tw_newestOf_R (d := a2) (b := a3) hV
            obtain ⟨hvb, hvj, hvn, hvt, hvv⟩ := hVer _ hnw hnR.2
            have hdoc := hDoc _ hd.1 hd.2
            refine lv_aload_n hx hb dX4_promote_79 rfl (lv_at hl 3 rfl) ?_
            refine lv_iload_n hx hb dX4_promote_80 rfl (lv_at hl 4 rfl) ?_
            refine lv_iload_n hx hb dX4_promote_81 rfl (lv_at hl 5 rfl) ?_
            refine z_callp (vx_runV (As := [.int (iI a1), .int (iI a2)]) (rest := [.int (iI (bI ((tw_isPerson a1) && (tw_isBranch w a2 a3)))), .ref t.1]) ⟨hx, hb, hml, hown, hts⟩ (tc_writes l hT (p_ := a1) (d := a2) (by first | with_reducible assumption | omega | exact ⟨by omega, by omega⟩ | omega) (by first | with_reducible assumption | omega | exact ⟨by omega, by omega⟩ | omega)) (cwV 2 hts (lw_V q2428 q2430 qs19 q49 q2431) rfl rfl rfl hd_X4_writes ⟨Nat.le_of_ble_eq_true rfl, Nat.le_of_ble_eq_true rfl⟩) (z_preV hK hS (zN_le hAn hS) hT.1 rfl rfl) rfl rfl hl.1 rfl (lv_room (Nat.le_of_ble_eq_true rfl)) dX4_promote_82 ⟨Nat.le_of_ble_eq_true rfl, Nat.le_of_ble_eq_true rfl⟩) hS (zN_le hAn hS) rfl rfl (fun locs hS => ?_)
            refine z_ifb_eq (b := tw_writes w a1 a2) (tgt := 92) hx hb dX4_promote_85 (by decide) (fun c_12 => ?_) (fun c_12 => ?_)
            · refine lv_iconst (v := iI 0) hx hb dX4_promote_92 rfl ?_
              refine z_top (x := 0) (y := bI ((((tw_isPerson a1) && (tw_isBranch w a2 a3)) && ((decide (tw_holderOf w a2 a3 = (-1))) && (!(tw_isReleased w (tw_pn w a1 a2 a3))))) && (tw_writes w a1 a2))) (by simp [bI, c_11, c_12]) ?_
              exact J_10 _ ls hS (lv_sub hl [0, 1, 2, 3, 4, 5, 6] rfl)
            · refine lv_iconst (v := iI 1) hx hb dX4_promote_88 rfl ?_
              refine lv_goto (tgt := 93) hx hb dX4_promote_89 (by decide) ?_
              refine z_top (x := 1) (y := bI ((((tw_isPerson a1) && (tw_isBranch w a2 a3)) && ((decide (tw_holderOf w a2 a3 = (-1))) && (!(tw_isReleased w (tw_pn w a1 a2 a3))))) && (tw_writes w a1 a2))) (by simp [bI, c_11, c_12]) ?_
              exact J_10 _ ls hS (lv_sub hl [0, 1, 2, 3, 4, 5, 6] rfl)
        · refine z_callm (v := .int (iI (bI (((tw_isPerson a1) && (tw_isBranch w a2 a3)) && ((((tw_isPerson a1) && (tw_isBranch w a2 a3)) && ((decide (tw_holderOf w a2 a3 = (-1))) && (!(tw_isReleased w (tw_pn w a1 a2 a3))))) && (tw_writes w a1 a2)))))) (P := (fun H1 => zT G t w kp lg hr ev rd (tw_ok3 ((tw_isPerson a1) && (tw_isBranch w a2 a3)) ((((tw_isPerson a1) && (tw_isBranch w a2 a3)) && ((decide (tw_holderOf w a2 a3 = (-1))) && (!(tw_isReleased w (tw_pn w a1 a2 a3))))) && (tw_writes w a1 a2)) true) H1)) (vx_runV (As := [.int (iI (bI ((tw_isPerson a1) && (tw_isBranch w a2 a3)))), .int (iI (bI ((((tw_isPerson a1) && (tw_isBranch w a2 a3)) && ((decide (tw_holderOf w a2 a3 = (-1))) && (!(tw_isReleased w (tw_pn w a1 a2 a3))))) && (tw_writes w a1 a2))))]) (rest := []) ⟨hx, hb, hml, hown, hts⟩ (tc_ok l hT (ba := (tw_isPerson a1) && (tw_isBranch w a2 a3)) (bb := (((tw_isPerson a1) && (tw_isBranch w a2 a3)) && ((decide (tw_holderOf w a2 a3 = (-1))) && (!(tw_isReleased w (tw_pn w a1 a2 a3))))) && (tw_writes w a1 a2))) (cwV 2 hts (lw_V q2368 q2370 qs11 q49 q2371) rfl rfl rfl hd_X4_ok ⟨Nat.le_of_ble_eq_true rfl, Nat.le_of_ble_eq_true rfl⟩) (z_preV hK hS (zTw_le hTA hAn hS) hT.1 rfl rfl) rfl rfl hl.1 rfl (lv_room (Nat.le_of_ble_eq_true rfl)) dX4_promote_93 ⟨Nat.le_of_ble_eq_true rfl, Nat.le_of_ble_eq_true rfl⟩) hS (zTw_le hTA hAn hS) rfl rfl (fun H locs hT hS => ?_)
          refine z_ifb_ne (b := ((tw_isPerson a1) && (tw_isBranch w a2 a3)) && ((((tw_isPerson a1) && (tw_isBranch w a2 a3)) && ((decide (tw_holderOf w a2 a3 = (-1))) && (!(tw_isReleased w (tw_pn w a1 a2 a3))))) && (tw_writes w a1 a2))) (tgt := 101) hx hb dX4_promote_96 (by decide) (fun c_13 => ?_) (fun c_13 => ?_)
          · have hc := c_13
            obtain ⟨c_are, -⟩ := Bool.and_eq_true_iff.mp hc
            obtain ⟨hp, hd, hbx⟩ := tw_are3 c_are
            have hb3 := hB _ hd.1 hd.2
            obtain ⟨hho, hgv, hcp, hog, hog2, hcv⟩ := hBr _ _ hd.1 hd.2 hbx.1 hbx.2
            have hgl : inR (w (5 + 32 * a2 + 8 + 8 * a3 + 2) + w 1 - w 0) := ⟨by omega, by omega⟩
            have hnw := hNew _ _ hd.1 hd.2 hbx.1 hbx.2
            have hnR := tw_newestOf_R (d := a2) (b := a3) hV
            obtain ⟨hvb, hvj, hvn, hvt, hvv⟩ := hVer _ hnw hnR.2
            have hdoc := hDoc _ hd.1 hd.2
            simp only [Bool.and_eq_true, Bool.or_eq_true, decide_eq_true_eq, Bool.not_eq_eq_eq_not, Bool.not_true, decide_eq_false_iff_not, Bool.not_false] at hc
            have hpn : tw_pn w a1 a2 a3 = tw_newestOf w a2 a3 := if_pos c_are
            rw [← hpn] at hnw hnR hvj hvn
            refine lv_aload_n hx hb dX4_promote_101 rfl (lv_at hl 3 rfl) ?_
            refine z_get (k := 0) hx hb hts in_X4 hown hK hT.1 rfl (by decide) q2331 rfl (v := .ref t.2.1) rfl dX4_promote_102 ?_
            refine lv_iload hx hb dX4_promote_105 (lv_at hl 1 rfl) ?_
            refine z_callp (vx_runS (As := [.int (iI (tw_pn w a1 a2 a3))]) (rest := [.ref t.2.1]) ⟨hx, hb, hml, hown, hts⟩ (tc_ver l (v := tw_pn w a1 a2 a3)) (va_cwS 1 hts (lw_S q2405 q2406 q49 q2407) rfl rfl rfl hn_X4_ver ⟨Nat.le_of_ble_eq_true rfl, Nat.le_of_ble_eq_true rfl⟩) (z_preS hK hS (zN_le hAn hS)) rfl rfl hl.1 rfl (lv_room (Nat.le_of_ble_eq_true rfl)) dX4_promote_107 ⟨Nat.le_of_ble_eq_true rfl, Nat.le_of_ble_eq_true rfl⟩) hS (zN_le hAn hS) rfl rfl (fun locs hS => ?_)
            refine lv_iconst (v := iI 2) hx hb dX4_promote_110 rfl ?_
            refine z_iadd (x := 261 + 9 * tw_pn w a1 a2 a3) (y := 2) hx hb dX4_promote_111 ?_
            refine lv_dup2_11 hx hb dX4_promote_112 rfl rfl ?_
            refine z_ildZ (i := 261 + 9 * tw_pn w a1 a2 a3 + 2) (f := w) hx hb hK hT.2.1 ⟨by omega, by omega⟩ (by decide) dX4_promote_113 ?_
            have r_14 : inR (w (261 + 9 * tw_pn w a1 a2 a3 + 2)) := hT.2.2.2.2.2.2.1 (261 + 9 * tw_pn w a1 a2 a3 + 2)
            refine lv_iconst (v := iI 1) hx hb dX4_promote_114 rfl ?_
            refine z_iadd (x := w (261 + 9 * tw_pn w a1 a2 a3 + 2)) (y := 1) hx hb dX4_promote_115 ?_
            refine zt_st (i := 261 + 9 * tw_pn w a1 a2 a3 + 2) (x := w (261 + 9 * tw_pn w a1 a2 a3 + 2) + 1) hx hb hK hT hTA hS ⟨by omega, by omega⟩ (by first | with_reducible assumption | omega | exact ⟨by omega, by omega⟩) dX4_promote_116 (fun H locs hT hS => ?_)
            refine lv_aload_n hx hb dX4_promote_117 rfl (lv_at hl 3 rfl) ?_
            refine z_get (k := 0) hx hb hts in_X4 hown hK hT.1 rfl (by decide) q2331 rfl (v := .ref t.2.1) rfl dX4_promote_118 ?_
            refine lv_iload hx hb dX4_promote_121 (lv_at hl 1 rfl) ?_
            refine z_callp (vx_runS (As := [.int (iI (tw_pn w a1 a2 a3))]) (rest := [.ref t.2.1]) ⟨hx, hb, hml, hown, hts⟩ (tc_ver l (v := tw_pn w a1 a2 a3)) (va_cwS 1 hts (lw_S q2405 q2406 q49 q2407) rfl rfl rfl hn_X4_ver ⟨Nat.le_of_ble_eq_true rfl, Nat.le_of_ble_eq_true rfl⟩) (z_preS hK hS (zN_le hAn hS)) rfl rfl hl.1 rfl (lv_room (Nat.le_of_ble_eq_true rfl)) dX4_promote_123 ⟨Nat.le_of_ble_eq_true rfl, Nat.le_of_ble_eq_true rfl⟩) hS (zN_le hAn hS) rfl rfl (fun locs hS => ?_)
            refine lv_iconst (v := iI 3) hx hb dX4_promote_126 rfl ?_
            refine z_iadd (x := 261 + 9 * tw_pn w a1 a2 a3) (y := 3) hx hb dX4_promote_127 ?_
            refine lv_iconst (v := iI 0) hx hb dX4_promote_128 rfl ?_
            refine zt_st (i := 261 + 9 * tw_pn w a1 a2 a3 + 3) (x := 0) hx hb hK hT hTA hS ⟨by omega, by omega⟩ (by decide) dX4_promote_129 (fun H locs hT hS => ?_)
            refine lv_aload_n hx hb dX4_promote_130 rfl (lv_at hl 3 rfl) ?_
            refine lv_bipush (v := iI 9) hx hb dX4_promote_131 (by decide) ?_
            refine lv_iload_n hx hb dX4_promote_133 rfl (lv_at hl 4 rfl) ?_
            refine lv_iload_n hx hb dX4_promote_134 rfl (lv_at hl 5 rfl) ?_
            refine lv_iload_n hx hb dX4_promote_135 rfl (lv_at hl 6 rfl) ?_
            refine lv_iconst (v := iI 0) hx hb dX4_promote_136 rfl ?_
            refine lv_iconst (v := iI 0) hx hb dX4_promote_137 rfl ?_
            refine z_callmv (P := (fun H1 => zT G t (zup (zup w (261 + 9 * tw_pn w a1 a2 a3 + 2) (w (261 + 9 * tw_pn w a1 a2 a3 + 2) + 1)) (261 + 9 * tw_pn w a1 a2 a3 + 3) 0) kp (kL rd 0 ev lg 9 a1 a2 a3 0 0) (kH rd 0 ev hr ((zup (zup w (261 + 9 * tw_pn w a1 a2 a3 + 2) (w (261 + 9 * tw_pn w a1 a2 a3 + 2) + 1)) (261 + 9 * tw_pn w a1 a2 a3 + 3) 0) 0)) (kE rd 0 ev) rd (tw_ok3 ((tw_isPerson a1) && (tw_isBranch w a2 a3)) ((((tw_isPerson a1) && (tw_isBranch w a2 a3)) && ((decide (tw_holderOf w a2 a3 = (-1))) && (!(tw_isReleased w (tw_pn w a1 a2 a3))))) && (tw_writes w a1 a2)) true) H1)) (vx_runV (As := [.int (iI 9), .int (iI a1), .int (iI a2), .int (iI a3), .int (iI 0), .int (iI 0)]) (rest := []) ⟨hx, hb, hml, hown, hts⟩ (tc_keep l hT (k0 := 9) (a1 := a1) (a2 := a2) (a3 := a3) (a4 := 0) (a5 := 0) (by first | with_reducible assumption | omega | exact ⟨by omega, by omega⟩ | omega) (by first | with_reducible assumption | omega | exact ⟨by omega, by omega⟩ | omega) (by first | with_reducible assumption | omega | exact ⟨by omega, by omega⟩ | omega) (by first | with_reducible assumption | omega | exact ⟨by omega, by omega⟩ | omega) (by first | with_reducible assumption | omega | exact ⟨by omega, by omega⟩ | omega) (by first | with_reducible assumption | omega | exact ⟨by omega, by omega⟩ | omega) (by first | with_reducible assumption | omega | exact ⟨by omega, by omega⟩ | omega)) (cwV 6 hts (lw_V q2376 q2378 qs13 q49 q2379) rfl rfl rfl hd_X4_keep ⟨Nat.le_of_ble_eq_true rfl, Nat.le_of_ble_eq_true rfl⟩) (z_preV hK hS (zTw_le hTA hAn hS) hT.1 rfl rfl) rfl rfl hl.1 rfl (lv_room (Nat.le_of_ble_eq_true rfl)) dX4_promote_138 ⟨Nat.le_of_ble_eq_true rfl, Nat.le_of_ble_eq_true rfl⟩) hS (zTw_le hTA hAn hS) rfl rfl (fun H locs hT hS => ?_)
            refine lv_iload hx hb dX4_promote_141 (lv_at hl 1 rfl) ?_
            exact z_iret hx hb hret rfl hlocks hS (by have hc : tC_promote w a1 a2 a3 = 0 := (by unfold tC_promote; simp only [tw_ok3_0]; first | assumption | (simp_all; done)); exact z_okend hc (by first | rfl | (simp [tW_promote, zup]; done)) hT) (Nat.le_of_ble_eq_true rfl) (Nat.le_of_ble_eq_true rfl) dX4_promote_143
          · refine lv_iconst (v := iI 0) hx hb dX4_promote_99 rfl ?_
            exact z_iret hx hb hret rfl hlocks hS (by have hc : ¬ tC_promote w a1 a2 a3 = 0 := (by unfold tC_promote; simp only [tw_ok3_0]; first | (simp_all; done) | assumption); exact z_noend hc hT) (Nat.le_of_ble_eq_true rfl) (Nat.le_of_ble_eq_true rfl) dX4_promote_100
