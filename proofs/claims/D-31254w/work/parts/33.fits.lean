set_option maxRecDepth 100000
theorem zat_br {w : Int → Int} {ad : zKey → Nat} {mc : Int → Int} {cp : Int → Nat} {cl : Bool} {F : Nat → Prop} {G : zG} {H : Heap} (h : zR G w ad mc cp cl F H) {d b v : Int} (hcd : (0 ≤ d ∧ d < w 2) ∧ 0 ≤ b ∧ b < w (5 + 32 * d + 1)) (hv : 0 ≤ v ∧ v < w 3) (hBr : tBr w) : decide (zOg w ad d b = some (ad (kver v))) = decide (w (5 + 32 * d + 8 + 8 * b) = v) := by
  have hb := hBr d b hcd.1.1 hcd.1.2 hcd.2.1 hcd.2.2
  unfold zOg
  by_cases h1 : w (5 + 32 * d + 8 + 8 * b) = -1
  · rw [if_pos h1, h1]
    rw [decide_eq_false (by simp), decide_eq_false (by omega)]
  · rw [if_neg h1]
    have h2 : b ≠ 0 := fun q => h1 (hb.2.2.2.1 q)
    have h3 := hb.2.2.2.2.1 h2
    refine decide_eq_decide.mpr ⟨fun q => ?_, fun q => by rw [q]⟩
    have := h.inj (kver _) (kver v) ⟨h3, rfl⟩ ⟨hv, rfl⟩ (Option.some.inj q)
    injection this with a1 a2
    injection a2 with a3 a4
theorem zat_cy {w : Int → Int} {ad : zKey → Nat} {mc : Int → Int} {cp : Int → Nat} {cl : Bool} {F : Nat → Prop} {G : zG} {H : Heap} (h : zR G w ad mc cp cl F H) {v u : Int} (hu : 0 ≤ u ∧ u < w 3) (hv : 0 ≤ v ∧ v < w 3) : (some (ad (kver u)) = some (ad (kver v))) ↔ u = v := by
  refine ⟨fun q => ?_, fun q => by rw [q]⟩
  have := h.inj (kver _) (kver v) ⟨hu, rfl⟩ ⟨hv, rfl⟩ (Option.some.inj q)
  injection this with a1 a2
  injection a2 with a3 a4
theorem zat_lv {w : Int → Int} {ad : zKey → Nat} {mc : Int → Int} {cp : Int → Nat} {cl : Bool} {F : Nat → Prop} {G : zG} {H : Heap} (h : zR G w ad mc cp cl F H) {k v : Int} (hk : 0 ≤ k ∧ k < w 4) (hv : 0 ≤ v ∧ v < w 3) (hLk : tLk w) : decide (zLv w ad k = some (ad (kver v))) = (decide (w (801 + 3 * k + 1) = 0) && decide (w (801 + 3 * k + 2) = v)) := by
  unfold zLv
  by_cases h1 : w (801 + 3 * k + 1) = 0
  · rw [if_pos h1]
    have := hLk k hk.1 hk.2 h1
    simp only [h1, decide_true, Bool.true_and]
    exact decide_eq_decide.mpr (zat_cy h this hv)
  · rw [if_neg h1]
    simp [h1]
theorem zcy_b {w : Int → Int} {ad : zKey → Nat} {mc : Int → Int} {cp : Int → Nat} {cl : Bool} {F : Nat → Prop} {G : zG} {H : Heap} (h : zR G w ad mc cp cl F H) {d b v : Int} (hcd : (0 ≤ d ∧ d < w 2) ∧ 0 ≤ b ∧ b < w (5 + 32 * d + 1)) (hv : 0 ≤ v ∧ v < w 3) (hBr : tBr w) : ((decide (zOg w ad d b = some (ad (kver v)))) || (!(zCy w ad d b).isNone && (decide (some (ad (kver (w (5 + 32 * d + 8 + 8 * b + 3)))) = some (ad (kver v)))))) = (decide (w (5 + 32 * d + 8 + 8 * b) = v) || (decide (0 < w (5 + 32 * d + 8 + 8 * b + 1)) && decide (w (5 + 32 * d + 8 + 8 * b + 3) = v))) := by
  have hb := hBr d b hcd.1.1 hcd.1.2 hcd.2.1 hcd.2.2
  rw [zat_br h hcd hv hBr]
  congr 1
  unfold zCy
  by_cases h1 : w (5 + 32 * d + 8 + 8 * b + 1) = 0
  · rw [if_pos h1, h1]
    rfl
  · rw [if_neg h1]
    rw [decide_eq_true (show 0 < w (5 + 32 * d + 8 + 8 * b + 1) by omega)]
    simp only [Option.isNone_some, Bool.not_false, Bool.true_and]
    exact decide_eq_decide.mpr (zat_cy h (hb.2.2.1 (by omega)) hv)
theorem zlp_b {w : Int → Int} {ad : zKey → Nat} {d b : Int} (hBr : tBr w) (hClk : tClk w) (hcd : (0 ≤ d ∧ d < w 2) ∧ 0 ≤ b ∧ b < w (5 + 32 * d + 1)) : (!(zCy w ad d b).isNone && (!!(decide (w 0 - w (5 + 32 * d + 8 + 8 * b + 2) < w 1)))) = decide (0 < tw_left w d b) := by
  have hb := (hBr d b hcd.1.1 hcd.1.2 hcd.2.1 hcd.2.2).2.1
  unfold zCy tw_left tw_max
  by_cases h1 : w (5 + 32 * d + 8 + 8 * b + 1) = 0
  · rw [if_pos h1, if_pos h1]
    rfl
  · rw [if_neg h1, if_neg h1]
    simp only [Option.isNone_some, Bool.not_false, Bool.true_and, Bool.not_not]
    refine decide_eq_decide.mpr ?_
    split <;> omega
theorem hn_X6_fits_2 : yX6_fits_2.cls ≠ "java/lang/invoke/MethodHandle" ∧ yX6_fits_2.cls ≠ "java/lang/invoke/VarHandle" ∧ (parseMethodDescriptor yX6_fits_2.desc).map (fun d => d.parameters.length) = some 1 := by decide +kernel
theorem hd_X6_fits_2 : yX6_fits_2.cls = "CheckoutDesk$Store$1" ∧ yX6_fits_2.cls ≠ "java/lang/invoke/MethodHandle" ∧ yX6_fits_2.cls ≠ "java/lang/invoke/VarHandle" ∧ (parseMethodDescriptor yX6_fits_2.desc).map (fun d => d.parameters.length) = some 1 := ⟨rfl, hn_X6_fits_2⟩
abbrev rm_X6_fits_2 : Room := { frames := 2, cells := 0, slots := 0, locals := 38 }
set_option maxHeartbeats 1000000 in
theorem cg_X6_fits_2 (l : Launch) {G : zG} {H0 : Heap} {w : Int → Int} {ad : zKey → Nat} {mc : Int → Int} {cp : Int → Nat} {cl : Bool} {F : Nat → Prop} (hR : zR G w ad mc cp cl F H0) {d0 b0 : Int} {s0 : Nat} {t0 : Nat} (ht : zO G H0 t0 5 [.int (iI d0), .int (iI b0), .ref s0]) (h0 : inR d0) (h1 : inR b0) {v0 : Int} (hv0 : 0 ≤ v0 ∧ v0 < w 3) : zM l yX6_fits_2 (ws_ yX6_fits_2 cX6_fits_2 2 (some .boolean)) rm_X6_fits_2 G (zN H0) [.ref t0, .ref (ad (kver v0))] H0 (fun r H1 => r = some (.int (iI (bI (tw_isOn w v0 d0 b0)))) ∧ H1 = H0) (fun _ => False) := by
  refine z_enter (by decide +kernel) (Nat.le_of_ble_eq_true rfl) ?_
  intro p e s m args below meth c ls hx hb hret hml hown hts hlocks htab hnm hK hH hl
  subst hH
  have hAn : ∀ q, s.heap.size ≤ q → (zN s.heap) q := fun _ h => h
  have hS : va_S (zN s.heap) s.heap s.heap [] := va_S.rf
  have hS0 := hS
  have hsz_0 : s.heap.size ≤ s.heap.size := Nat.le_refl _
  have hl : lv_has ls 2 [(0, .ref t0), (1, .ref (ad (kver v0)))] := hl
  obtain ⟨hD, hV, hL_, hB, hwR⟩ := hR.n
  refine lv_aload_n hx hb dX6_fits_2_0 rfl (lv_at hl 1 rfl) ?_
  refine lv_aload_n hx hb dX6_fits_2_1 rfl (lv_at hl 0 rfl) ?_
  refine z_get (k := 0) hx hb hts in_X6 hown hK ht rfl (by decide) q962 rfl (v := .int (iI d0)) rfl dX6_fits_2_2 ?_
  refine lv_aload_n hx hb dX6_fits_2_5 rfl (lv_at hl 0 rfl) ?_
  refine z_get (k := 1) hx hb hts in_X6 hown hK ht rfl (by decide) q963 rfl (v := .int (iI b0)) rfl dX6_fits_2_6 ?_
  refine z_callp (vx_runV (As := [.int (iI d0), .int (iI b0)]) (rest := []) ⟨hx, hb, hml, hown, hts⟩ (cg_X12_isOf l (hR.ver (v := v0) (by first | with_reducible assumption | exact ⟨by omega, by omega⟩ | exact ⟨⟨by omega, by omega⟩, by omega, by omega⟩ | exact ⟨⟨⟨by omega, by omega⟩, by omega, by omega⟩, by first | assumption | omega⟩)) (x0 := d0) (x1 := b0) (by first | with_reducible assumption | with_reducible exact hwR _ | omega | exact ⟨by omega, by omega⟩) (by first | with_reducible assumption | with_reducible exact hwR _ | omega | exact ⟨by omega, by omega⟩) (by first | with_reducible assumption | with_reducible exact hwR _ | omega | exact ⟨by omega, by omega⟩) (by first | with_reducible assumption | with_reducible exact hwR _ | omega | exact ⟨by omega, by omega⟩)) (cwV 2 hts (lw_V q471 q472 q473 q77 q474) rfl rfl rfl hd_X12_isOf ⟨Nat.le_of_ble_eq_true rfl, Nat.le_of_ble_eq_true rfl⟩) (z_preV hK hS (zN_le hAn hS) (hR.ver (v := v0) (by first | with_reducible assumption | exact ⟨by omega, by omega⟩ | exact ⟨⟨by omega, by omega⟩, by omega, by omega⟩ | exact ⟨⟨⟨by omega, by omega⟩, by omega, by omega⟩, by first | assumption | omega⟩)) rfl rfl) rfl rfl hl.1 rfl (lv_room (Nat.le_of_ble_eq_true rfl)) dX6_fits_2_9 ⟨Nat.le_of_ble_eq_true rfl, Nat.le_of_ble_eq_true rfl⟩) hS (zN_le hAn hS) rfl rfl (fun locs hS => ?_)
  exact z_iret hx hb hret (z_nar _) hlocks hS ⟨congrArg (fun z => some (Value.int (iI (bI z)))) (by simp [zGn, tw_isOn]), rfl⟩ (Nat.le_of_ble_eq_true rfl) (Nat.le_of_ble_eq_true rfl) dX6_fits_2_12
theorem hn_X6_fits : yX6_fits.cls ≠ "java/lang/invoke/MethodHandle" ∧ yX6_fits.cls ≠ "java/lang/invoke/VarHandle" ∧ (parseMethodDescriptor yX6_fits.desc).map (fun d => d.parameters.length) = some 1 := by decide +kernel
theorem hd_X6_fits : yX6_fits.cls = "CheckoutDesk$Store$1" ∧ yX6_fits.cls ≠ "java/lang/invoke/MethodHandle" ∧ yX6_fits.cls ≠ "java/lang/invoke/VarHandle" ∧ (parseMethodDescriptor yX6_fits.desc).map (fun d => d.parameters.length) = some 1 := ⟨rfl, hn_X6_fits⟩
abbrev rm_X6_fits : Room := { frames := 3, cells := 0, slots := 0, locals := 59 }
set_option maxHeartbeats 1000000 in
theorem cg_X6_fits (l : Launch) {G : zG} {H0 : Heap} {w : Int → Int} {ad : zKey → Nat} {mc : Int → Int} {cp : Int → Nat} {cl : Bool} {F : Nat → Prop} (hR : zR G w ad mc cp cl F H0) {d0 b0 : Int} {s0 : Nat} {t0 : Nat} (ht : zO G H0 t0 5 [.int (iI d0), .int (iI b0), .ref s0]) (h0 : inR d0) (h1 : inR b0) {v0 : Int} (hv0 : 0 ≤ v0 ∧ v0 < w 3) : zM l yX6_fits (ws_ yX6_fits cX6_fits 2 (some .boolean)) rm_X6_fits G (zN H0) [.ref t0, .ref (ad (kver v0))] H0 (fun r H1 => r = some (.int (iI (bI (tw_isOn w v0 d0 b0)))) ∧ H1 = H0) (fun _ => False) := by
  refine z_enter (by decide +kernel) (Nat.le_of_ble_eq_true rfl) ?_
  intro p e s m args below meth c ls hx hb hret hml hown hts hlocks htab hnm hK hH hl
  subst hH
  have hAn : ∀ q, s.heap.size ≤ q → (zN s.heap) q := fun _ h => h
  have hS : va_S (zN s.heap) s.heap s.heap [] := va_S.rf
  have hS0 := hS
  have hsz_0 : s.heap.size ≤ s.heap.size := Nat.le_refl _
  have hl : lv_has ls 2 [(0, .ref t0), (1, .ref (ad (kver v0)))] := hl
  obtain ⟨hD, hV, hL_, hB, hwR⟩ := hR.n
  refine lv_aload_n hx hb dX6_fits_0 rfl (lv_at hl 0 rfl) ?_
  refine lv_aload_n hx hb dX6_fits_1 rfl (lv_at hl 1 rfl) ?_
  refine va_castE (nm := "CheckoutDesk$Version") hx hb hown (hts _ q466) (z_recv (q := (RX12, TX12, 7)) hK (hR.ver (v := v0) (by first | with_reducible assumption | exact ⟨by omega, by omega⟩ | exact ⟨⟨by omega, by omega⟩, by omega, by omega⟩ | exact ⟨⟨⟨by omega, by omega⟩, by omega, by omega⟩, by first | assumption | omega⟩)) rfl) dX6_fits_2 ?_
  refine z_callp (vx_runV (As := [.ref (ad (kver v0))]) (rest := []) ⟨hx, hb, hml, hown, hts⟩ (cg_X6_fits_2 l hR ht h0 h1 hv0) (cwV 1 hts (lw_V q467 q468 q469 q59 q470) rfl rfl rfl hd_X6_fits_2 ⟨Nat.le_of_ble_eq_true rfl, Nat.le_of_ble_eq_true rfl⟩) (z_preV hK hS (zN_le hAn hS) ht rfl rfl) rfl rfl hl.1 rfl (lv_room (Nat.le_of_ble_eq_true rfl)) dX6_fits_5 ⟨Nat.le_of_ble_eq_true rfl, Nat.le_of_ble_eq_true rfl⟩) hS (zN_le hAn hS) rfl rfl (fun locs hS => ?_)
  exact z_iret hx hb hret (z_nar _) hlocks hS ⟨rfl, rfl⟩ (Nat.le_of_ble_eq_true rfl) (Nat.le_of_ble_eq_true rfl) dX6_fits_8
theorem hi_X6_fits : zImp ⟨"CheckoutDesk$Test", "fits", "(Ljava/lang/Object;)Z"⟩ RX6 yX6_fits cX6_fits 2 (some .boolean) := ⟨List.mem_of_getElem? (i := 16) rfl, q461, q463, q59, q465⟩
theorem hn_X7_fits_2 : yX7_fits_2.cls ≠ "java/lang/invoke/MethodHandle" ∧ yX7_fits_2.cls ≠ "java/lang/invoke/VarHandle" ∧ (parseMethodDescriptor yX7_fits_2.desc).map (fun d => d.parameters.length) = some 1 := by decide +kernel
theorem hd_X7_fits_2 : yX7_fits_2.cls = "CheckoutDesk$Store$2" ∧ yX7_fits_2.cls ≠ "java/lang/invoke/MethodHandle" ∧ yX7_fits_2.cls ≠ "java/lang/invoke/VarHandle" ∧ (parseMethodDescriptor yX7_fits_2.desc).map (fun d => d.parameters.length) = some 1 := ⟨rfl, hn_X7_fits_2⟩
abbrev rm_X7_fits_2 : Room := { frames := 11, cells := 0, slots := 0, locals := 184 }
set_option maxHeartbeats 1000000 in
theorem cg_X7_fits_2 (l : Launch) {G : zG} {H0 : Heap} {w : Int → Int} {ad : zKey → Nat} {mc : Int → Int} {cp : Int → Nat} {cl : Bool} {F : Nat → Prop} (hR : zR G w ad mc cp cl F H0) {k0 p0 : Int} {t0 : Nat} (ht : zO G H0 t0 6 [.ref (ad (klk k0)), .int (iI p0), .ref (ad kst)]) {v0 : Int} (hv0 : 0 ≤ v0 ∧ v0 < w 3) (hk0 : 0 ≤ k0 ∧ k0 < w 4) (hp0 : 0 ≤ p0 ∧ p0 ≤ 5) (hkd : w (801 + 3 * k0 + 1) ≠ 0) (hVd : tVd w) : zM l yX7_fits_2 (ws_ yX7_fits_2 cX7_fits_2 2 (some .boolean)) rm_X7_fits_2 G (zN H0) [.ref t0, .ref (ad (kver v0))] H0 (fun r H1 => r = some (.int (iI (bI (tw_isOn w v0 (w (801 + 3 * k0 + 2)) 0 && (tw_sees w p0 v0 && (decide (w (801 + 3 * k0 + 1) = 1) || tw_isReleased w v0)))))) ∧ H1 = H0) (fun _ => False) := by
  refine z_enter (by decide +kernel) (Nat.le_of_ble_eq_true rfl) ?_
  intro p e s m args below meth c ls hx hb hret hml hown hts hlocks htab hnm hK hH hl
  subst hH
  have hAn : ∀ q, s.heap.size ≤ q → (zN s.heap) q := fun _ h => h
  have hS : va_S (zN s.heap) s.heap s.heap [] := va_S.rf
  have hS0 := hS
  have hsz_0 : s.heap.size ≤ s.heap.size := Nat.le_refl _
  have hl : lv_has ls 2 [(0, .ref t0), (1, .ref (ad (kver v0)))] := hl
  obtain ⟨hD, hV, hL_, hB, hwR⟩ := hR.n
  have hlt : inR (zLt w k0) := by unfold zLt; rw [if_neg hkd]; exact hwR _
  refine lv_aload_n hx hb dX7_fits_2_0 rfl (lv_at hl 1 rfl) ?_
  refine lv_aload_n hx hb dX7_fits_2_1 rfl (lv_at hl 0 rfl) ?_
  refine z_get (k := 0) hx hb hts in_X7 hown hK ht rfl (by decide) q396 rfl (v := .ref (ad (klk k0))) rfl dX7_fits_2_2 ?_
  refine z_getN (k := 1) hx hb hts in_X13 hown hK (hR.lk (k := k0) (by first | with_reducible assumption | exact ⟨by omega, by omega⟩ | exact ⟨⟨by omega, by omega⟩, by omega, by omega⟩ | exact ⟨⟨⟨by omega, by omega⟩, by omega, by omega⟩, by first | assumption | omega⟩)) rfl (by decide) q1265 rfl (v := .int (iI (zLt w k0))) rfl dX7_fits_2_5 ?_
  refine lv_iconst (v := iI 0) hx hb dX7_fits_2_8 rfl ?_
  refine z_callp (vx_runV (As := [.int (iI (zLt w k0)), .int (iI 0)]) (rest := []) ⟨hx, hb, hml, hown, hts⟩ (cg_X12_isOf l (hR.ver (v := v0) (by first | with_reducible assumption | exact ⟨by omega, by omega⟩ | exact ⟨⟨by omega, by omega⟩, by omega, by omega⟩ | exact ⟨⟨⟨by omega, by omega⟩, by omega, by omega⟩, by first | assumption | omega⟩)) (x0 := zLt w k0) (x1 := 0) (by first | with_reducible assumption | with_reducible exact hwR _ | omega | exact ⟨by omega, by omega⟩) (by first | with_reducible assumption | with_reducible exact hwR _ | omega | exact ⟨by omega, by omega⟩) (by first | with_reducible assumption | with_reducible exact hwR _ | omega | exact ⟨by omega, by omega⟩) (by decide)) (cwV 2 hts (lw_V q486 q472 q473 q77 q474) rfl rfl rfl hd_X12_isOf ⟨Nat.le_of_ble_eq_true rfl, Nat.le_of_ble_eq_true rfl⟩) (z_preV hK hS (zN_le hAn hS) (hR.ver (v := v0) (by first | with_reducible assumption | exact ⟨by omega, by omega⟩ | exact ⟨⟨by omega, by omega⟩, by omega, by omega⟩ | exact ⟨⟨⟨by omega, by omega⟩, by omega, by omega⟩, by first | assumption | omega⟩)) rfl rfl) rfl rfl hl.1 rfl (lv_room (Nat.le_of_ble_eq_true rfl)) dX7_fits_2_9 ⟨Nat.le_of_ble_eq_true rfl, Nat.le_of_ble_eq_true rfl⟩) hS (zN_le hAn hS) rfl rfl (fun locs hS => ?_)
  refine z_join (pc2 := 53) (nL := 2) (lv := [(0, .ref t0), (1, .ref (ad (kver v0)))]) (st2 := [.int (iI (bI ((!(zGn w v0) && ((decide (w (261 + 9 * v0) = zLt w k0)) && (decide (w (261 + 9 * v0 + 1) = 0)))) && ((!(zGn w v0) && tw_sees w p0 v0) && ((decide (w (801 + 3 * k0 + 1) = 1)) || (decide (w (261 + 9 * v0 + 3) = 0)))))))]) hS (fun J_1 => ?_) (fun locs ls hS hl => ?_)
  · refine z_ifb_eq (b := !(zGn w v0) && ((decide (w (261 + 9 * v0) = zLt w k0)) && (decide (w (261 + 9 * v0 + 1) = 0)))) (tgt := 52) hx hb dX7_fits_2_12 (by decide) (fun c_2 => ?_) (fun c_2 => ?_)
    · refine lv_iconst (v := iI 0) hx hb dX7_fits_2_52 rfl ?_
      refine z_top (x := 0) (y := bI ((!(zGn w v0) && ((decide (w (261 + 9 * v0) = zLt w k0)) && (decide (w (261 + 9 * v0 + 1) = 0)))) && ((!(zGn w v0) && tw_sees w p0 v0) && ((decide (w (801 + 3 * k0 + 1) = 1)) || (decide (w (261 + 9 * v0 + 3) = 0)))))) (by simp [bI, c_2]) ?_
      exact J_1 _ ls hS (lv_sub hl [0, 1] rfl)
    · refine lv_aload_n hx hb dX7_fits_2_15 rfl (lv_at hl 0 rfl) ?_
      refine z_get (k := 2) hx hb hts in_X7 hown hK ht rfl (by decide) q398 rfl (v := .ref (ad kst)) rfl dX7_fits_2_16 ?_
      refine lv_aload_n hx hb dX7_fits_2_19 rfl (lv_at hl 0 rfl) ?_
      refine z_get (k := 1) hx hb hts in_X7 hown hK ht rfl (by decide) q397 rfl (v := .int (iI p0)) rfl dX7_fits_2_20 ?_
      refine lv_aload_n hx hb dX7_fits_2_23 rfl (lv_at hl 1 rfl) ?_
      refine z_callp (vx_runV (As := [.int (iI p0), .ref (ad (kver v0))]) (rest := []) ⟨hx, hb, hml, hown, hts⟩ (cg_X2_maySee l hR (p0 := p0) (v0 := v0) (by first | with_reducible assumption | omega | exact ⟨by omega, by omega⟩) (by first | with_reducible assumption | omega | exact ⟨by omega, by omega⟩) hVd) (cwV 2 hts (lw_V q487 q288 q289 q47 q290) rfl rfl rfl hd_X2_maySee ⟨Nat.le_of_ble_eq_true rfl, Nat.le_of_ble_eq_true rfl⟩) (z_preV hK hS (zN_le hAn hS) hR.st rfl rfl) rfl rfl hl.1 rfl (lv_room (Nat.le_of_ble_eq_true rfl)) dX7_fits_2_24 ⟨Nat.le_of_ble_eq_true rfl, Nat.le_of_ble_eq_true rfl⟩) hS (zN_le hAn hS) rfl rfl (fun locs hS => ?_)
      refine z_ifb_eq (b := !(zGn w v0) && tw_sees w p0 v0) (tgt := 52) hx hb dX7_fits_2_27 (by decide) (fun c_3 => ?_) (fun c_3 => ?_)
      · refine lv_iconst (v := iI 0) hx hb dX7_fits_2_52 rfl ?_
        refine z_top (x := 0) (y := bI ((!(zGn w v0) && ((decide (w (261 + 9 * v0) = zLt w k0)) && (decide (w (261 + 9 * v0 + 1) = 0)))) && ((!(zGn w v0) && tw_sees w p0 v0) && ((decide (w (801 + 3 * k0 + 1) = 1)) || (decide (w (261 + 9 * v0 + 3) = 0)))))) (by simp [bI, c_2, c_3]) ?_
        exact J_1 _ ls hS (lv_sub hl [0, 1] rfl)
      · refine lv_aload_n hx hb dX7_fits_2_30 rfl (lv_at hl 0 rfl) ?_
        refine z_get (k := 0) hx hb hts in_X7 hown hK ht rfl (by decide) q396 rfl (v := .ref (ad (klk k0))) rfl dX7_fits_2_31 ?_
        refine z_getN (k := 2) hx hb hts in_X13 hown hK (hR.lk (k := k0) (by first | with_reducible assumption | exact ⟨by omega, by omega⟩ | exact ⟨⟨by omega, by omega⟩, by omega, by omega⟩ | exact ⟨⟨⟨by omega, by omega⟩, by omega, by omega⟩, by first | assumption | omega⟩)) rfl (by decide) q1267 rfl (v := .int (iI (w (801 + 3 * k0 + 1)))) rfl dX7_fits_2_34 ?_
        refine lv_iconst (v := iI 1) hx hb dX7_fits_2_37 rfl ?_
        refine z_icmp_eq (x := w (801 + 3 * k0 + 1)) (y := 1) (tgt := 48) hx hb (by first | with_reducible assumption | with_reducible exact hwR _ | omega | exact ⟨by omega, by omega⟩) (by decide) dX7_fits_2_38 (by decide) (fun c_4 => ?_) (fun c_4 => ?_)
        · refine lv_iconst (v := iI 1) hx hb dX7_fits_2_48 rfl ?_
          refine lv_goto (tgt := 53) hx hb dX7_fits_2_49 (by decide) ?_
          refine z_top (x := 1) (y := bI ((!(zGn w v0) && ((decide (w (261 + 9 * v0) = zLt w k0)) && (decide (w (261 + 9 * v0 + 1) = 0)))) && ((!(zGn w v0) && tw_sees w p0 v0) && ((decide (w (801 + 3 * k0 + 1) = 1)) || (decide (w (261 + 9 * v0 + 3) = 0)))))) (by simp [bI, c_2, c_3, c_4]) ?_
          exact J_1 _ ls hS (lv_sub hl [0, 1] rfl)
        · refine lv_aload_n hx hb dX7_fits_2_41 rfl (lv_at hl 1 rfl) ?_
          refine z_callp (vx_runV (As := []) (rest := []) ⟨hx, hb, hml, hown, hts⟩ (cg_X12_isReleased l (hR.ver (v := v0) (by first | with_reducible assumption | exact ⟨by omega, by omega⟩ | exact ⟨⟨by omega, by omega⟩, by omega, by omega⟩ | exact ⟨⟨⟨by omega, by omega⟩, by omega, by omega⟩, by first | assumption | omega⟩)) (by first | with_reducible assumption | with_reducible exact hwR _ | omega | exact ⟨by omega, by omega⟩)) (cwV 0 hts (lw_V q488 q387 q388 q77 q389) rfl rfl rfl hd_X12_isReleased ⟨Nat.le_of_ble_eq_true rfl, Nat.le_of_ble_eq_true rfl⟩) (z_preV hK hS (zN_le hAn hS) (hR.ver (v := v0) (by first | with_reducible assumption | exact ⟨by omega, by omega⟩ | exact ⟨⟨by omega, by omega⟩, by omega, by omega⟩ | exact ⟨⟨⟨by omega, by omega⟩, by omega, by omega⟩, by first | assumption | omega⟩)) rfl rfl) rfl rfl hl.1 rfl (lv_room (Nat.le_of_ble_eq_true rfl)) dX7_fits_2_42 ⟨Nat.le_of_ble_eq_true rfl, Nat.le_of_ble_eq_true rfl⟩) hS (zN_le hAn hS) rfl rfl (fun locs hS => ?_)
          refine z_ifb_eq (b := decide (w (261 + 9 * v0 + 3) = 0)) (tgt := 52) hx hb dX7_fits_2_45 (by decide) (fun c_5 => ?_) (fun c_5 => ?_)
          · refine lv_iconst (v := iI 0) hx hb dX7_fits_2_52 rfl ?_
            refine z_top (x := 0) (y := bI ((!(zGn w v0) && ((decide (w (261 + 9 * v0) = zLt w k0)) && (decide (w (261 + 9 * v0 + 1) = 0)))) && ((!(zGn w v0) && tw_sees w p0 v0) && ((decide (w (801 + 3 * k0 + 1) = 1)) || (decide (w (261 + 9 * v0 + 3) = 0)))))) (by simp [bI, c_2, c_3, c_4, c_5]) ?_
            exact J_1 _ ls hS (lv_sub hl [0, 1] rfl)
          · refine lv_iconst (v := iI 1) hx hb dX7_fits_2_48 rfl ?_
            refine lv_goto (tgt := 53) hx hb dX7_fits_2_49 (by decide) ?_
            refine z_top (x := 1) (y := bI ((!(zGn w v0) && ((decide (w (261 + 9 * v0) = zLt w k0)) && (decide (w (261 + 9 * v0 + 1) = 0)))) && ((!(zGn w v0) && tw_sees w p0 v0) && ((decide (w (801 + 3 * k0 + 1) = 1)) || (decide (w (261 + 9 * v0 + 3) = 0)))))) (by simp [bI, c_2, c_3, c_4, c_5]) ?_
            exact J_1 _ ls hS (lv_sub hl [0, 1] rfl)
  · exact z_iret hx hb hret (z_nar _) hlocks hS ⟨congrArg (fun z => some (Value.int (iI (bI z)))) (by unfold zLt tw_isOn tw_isReleased zGn; rw [if_neg hkd]; by_cases q : w (261 + 9 * v0 + 8) = 1 <;> simp [q, Bool.and_assoc]), rfl⟩ (Nat.le_of_ble_eq_true rfl) (Nat.le_of_ble_eq_true rfl) dX7_fits_2_53
theorem hn_X7_fits : yX7_fits.cls ≠ "java/lang/invoke/MethodHandle" ∧ yX7_fits.cls ≠ "java/lang/invoke/VarHandle" ∧ (parseMethodDescriptor yX7_fits.desc).map (fun d => d.parameters.length) = some 1 := by decide +kernel
theorem hd_X7_fits : yX7_fits.cls = "CheckoutDesk$Store$2" ∧ yX7_fits.cls ≠ "java/lang/invoke/MethodHandle" ∧ yX7_fits.cls ≠ "java/lang/invoke/VarHandle" ∧ (parseMethodDescriptor yX7_fits.desc).map (fun d => d.parameters.length) = some 1 := ⟨rfl, hn_X7_fits⟩
abbrev rm_X7_fits : Room := { frames := 12, cells := 0, slots := 0, locals := 205 }
set_option maxHeartbeats 1000000 in
theorem cg_X7_fits (l : Launch) {G : zG} {H0 : Heap} {w : Int → Int} {ad : zKey → Nat} {mc : Int → Int} {cp : Int → Nat} {cl : Bool} {F : Nat → Prop} (hR : zR G w ad mc cp cl F H0) {k0 p0 : Int} {t0 : Nat} (ht : zO G H0 t0 6 [.ref (ad (klk k0)), .int (iI p0), .ref (ad kst)]) {v0 : Int} (hv0 : 0 ≤ v0 ∧ v0 < w 3) (hk0 : 0 ≤ k0 ∧ k0 < w 4) (hp0 : 0 ≤ p0 ∧ p0 ≤ 5) (hkd : w (801 + 3 * k0 + 1) ≠ 0) (hVd : tVd w) : zM l yX7_fits (ws_ yX7_fits cX7_fits 2 (some .boolean)) rm_X7_fits G (zN H0) [.ref t0, .ref (ad (kver v0))] H0 (fun r H1 => r = some (.int (iI (bI (tw_isOn w v0 (w (801 + 3 * k0 + 2)) 0 && (tw_sees w p0 v0 && (decide (w (801 + 3 * k0 + 1) = 1) || tw_isReleased w v0)))))) ∧ H1 = H0) (fun _ => False) := by
  refine z_enter (by decide +kernel) (Nat.le_of_ble_eq_true rfl) ?_
  intro p e s m args below meth c ls hx hb hret hml hown hts hlocks htab hnm hK hH hl
  subst hH
  have hAn : ∀ q, s.heap.size ≤ q → (zN s.heap) q := fun _ h => h
  have hS : va_S (zN s.heap) s.heap s.heap [] := va_S.rf
  have hS0 := hS
  have hsz_0 : s.heap.size ≤ s.heap.size := Nat.le_refl _
  have hl : lv_has ls 2 [(0, .ref t0), (1, .ref (ad (kver v0)))] := hl
  obtain ⟨hD, hV, hL_, hB, hwR⟩ := hR.n
  have hlt : inR (zLt w k0) := by unfold zLt; rw [if_neg hkd]; exact hwR _
  refine lv_aload_n hx hb dX7_fits_0 rfl (lv_at hl 0 rfl) ?_
  refine lv_aload_n hx hb dX7_fits_1 rfl (lv_at hl 1 rfl) ?_
  refine va_castE (nm := "CheckoutDesk$Version") hx hb hown (hts _ q481) (z_recv (q := (RX12, TX12, 7)) hK (hR.ver (v := v0) (by first | with_reducible assumption | exact ⟨by omega, by omega⟩ | exact ⟨⟨by omega, by omega⟩, by omega, by omega⟩ | exact ⟨⟨⟨by omega, by omega⟩, by omega, by omega⟩, by first | assumption | omega⟩)) rfl) dX7_fits_2 ?_
  refine z_callp (vx_runV (As := [.ref (ad (kver v0))]) (rest := []) ⟨hx, hb, hml, hown, hts⟩ (cg_X7_fits_2 l hR ht hv0 hk0 hp0 hkd hVd) (cwV 1 hts (lw_V q482 q483 q484 q60 q485) rfl rfl rfl hd_X7_fits_2 ⟨Nat.le_of_ble_eq_true rfl, Nat.le_of_ble_eq_true rfl⟩) (z_preV hK hS (zN_le hAn hS) ht rfl rfl) rfl rfl hl.1 rfl (lv_room (Nat.le_of_ble_eq_true rfl)) dX7_fits_5 ⟨Nat.le_of_ble_eq_true rfl, Nat.le_of_ble_eq_true rfl⟩) hS (zN_le hAn hS) rfl rfl (fun locs hS => ?_)
  exact z_iret hx hb hret (z_nar _) hlocks hS ⟨rfl, rfl⟩ (Nat.le_of_ble_eq_true rfl) (Nat.le_of_ble_eq_true rfl) dX7_fits_8
theorem hi_X7_fits : zImp ⟨"CheckoutDesk$Test", "fits", "(Ljava/lang/Object;)Z"⟩ RX7 yX7_fits cX7_fits 2 (some .boolean) := ⟨List.mem_of_getElem? (i := 17) rfl, q476, q478, q60, q480⟩
theorem hn_X8_fits_2 : yX8_fits_2.cls ≠ "java/lang/invoke/MethodHandle" ∧ yX8_fits_2.cls ≠ "java/lang/invoke/VarHandle" ∧ (parseMethodDescriptor yX8_fits_2.desc).map (fun d => d.parameters.length) = some 1 := by decide +kernel
theorem hd_X8_fits_2 : yX8_fits_2.cls = "CheckoutDesk$Store$3" ∧ yX8_fits_2.cls ≠ "java/lang/invoke/MethodHandle" ∧ yX8_fits_2.cls ≠ "java/lang/invoke/VarHandle" ∧ (parseMethodDescriptor yX8_fits_2.desc).map (fun d => d.parameters.length) = some 1 := ⟨rfl, hn_X8_fits_2⟩
abbrev rm_X8_fits_2 : Room := { frames := 1, cells := 0, slots := 0, locals := 16 }
set_option maxHeartbeats 1000000 in
theorem cg_X8_fits_2 (l : Launch) {G : zG} {H0 : Heap} {w : Int → Int} {ad : zKey → Nat} {mc : Int → Int} {cp : Int → Nat} {cl : Bool} {F : Nat → Prop} (hR : zR G w ad mc cp cl F H0) {v0 d0 b0 : Int} {t0 : Nat} (ht : zO G H0 t0 7 [.ref (ad (kver v0)), .ref (ad kst)]) (hv0 : 0 ≤ v0 ∧ v0 < w 3) (hcd : (0 ≤ d0 ∧ d0 < w 2) ∧ 0 ≤ b0 ∧ b0 < w (5 + 32 * d0 + 1)) (hBr : tBr w) : zM l yX8_fits_2 (ws_ yX8_fits_2 cX8_fits_2 2 (some .boolean)) rm_X8_fits_2 G (zN H0) [.ref t0, .ref (ad (kbr d0 b0))] H0 (fun r H1 => r = some (.int (iI (bI (decide (w (5 + 32 * d0 + 8 + 8 * b0) = v0) || (decide (0 < w (5 + 32 * d0 + 8 + 8 * b0 + 1)) && decide (w (5 + 32 * d0 + 8 + 8 * b0 + 3) = v0)))))) ∧ H1 = H0) (fun _ => False) := by
  refine z_enter (by decide +kernel) (Nat.le_of_ble_eq_true rfl) ?_
  intro p e s m args below meth c ls hx hb hret hml hown hts hlocks htab hnm hK hH hl
  subst hH
  have hAn : ∀ q, s.heap.size ≤ q → (zN s.heap) q := fun _ h => h
  have hS : va_S (zN s.heap) s.heap s.heap [] := va_S.rf
  have hS0 := hS
  have hsz_0 : s.heap.size ≤ s.heap.size := Nat.le_refl _
  have hl : lv_has ls 2 [(0, .ref t0), (1, .ref (ad (kbr d0 b0)))] := hl
  obtain ⟨hD, hV, hL_, hB, hwR⟩ := hR.n
  refine lv_aload_n hx hb dX8_fits_2_0 rfl (lv_at hl 1 rfl) ?_
  refine z_getN (k := 0) hx hb hts in_X10 hown hK (hR.br (d := d0) (b := b0) (by first | with_reducible assumption | exact ⟨by omega, by omega⟩ | exact ⟨⟨by omega, by omega⟩, by omega, by omega⟩ | exact ⟨⟨⟨by omega, by omega⟩, by omega, by omega⟩, by first | assumption | omega⟩)) rfl (by decide) q1045 rfl (v := va_rf (zOg w ad d0 b0)) rfl dX8_fits_2_1 ?_
  refine lv_aload_n hx hb dX8_fits_2_4 rfl (lv_at hl 0 rfl) ?_
  refine z_get (k := 0) hx hb hts in_X8 hown hK ht rfl (by decide) q998 rfl (v := .ref (ad (kver v0))) rfl dX8_fits_2_5 ?_
  refine z_join (pc2 := 37) (nL := 2) (lv := [(0, .ref t0), (1, .ref (ad (kbr d0 b0)))]) (st2 := [.int (iI (bI ((decide (zOg w ad d0 b0 = some (ad (kver v0)))) || (!((zCy w ad d0 b0).isNone) && (decide (some (ad (kver (w (5 + 32 * d0 + 8 + 8 * b0 + 3)))) = some (ad (kver v0))))))))]) hS (fun J_1 => ?_) (fun locs ls hS hl => ?_)
  · refine lv_acmp_eq (rx := zOg w ad d0 b0) (ry := some (ad (kver v0))) (tgt := 32) hx hb dX8_fits_2_8 (by decide) (fun c_2 => ?_) (fun c_2 => ?_)
    · refine lv_iconst (v := iI 1) hx hb dX8_fits_2_32 rfl ?_
      refine lv_goto (tgt := 37) hx hb dX8_fits_2_33 (by decide) ?_
      refine z_top (x := 1) (y := bI ((decide (zOg w ad d0 b0 = some (ad (kver v0)))) || (!((zCy w ad d0 b0).isNone) && (decide (some (ad (kver (w (5 + 32 * d0 + 8 + 8 * b0 + 3)))) = some (ad (kver v0))))))) (by simp [bI, c_2]) ?_
      exact J_1 _ ls hS (lv_sub hl [0, 1] rfl)
    · refine lv_aload_n hx hb dX8_fits_2_11 rfl (lv_at hl 1 rfl) ?_
      refine z_getN (k := 1) hx hb hts in_X10 hown hK (hR.br (d := d0) (b := b0) (by first | with_reducible assumption | exact ⟨by omega, by omega⟩ | exact ⟨⟨by omega, by omega⟩, by omega, by omega⟩ | exact ⟨⟨⟨by omega, by omega⟩, by omega, by omega⟩, by first | assumption | omega⟩)) rfl (by decide) q1049 rfl (v := va_rf (zCy w ad d0 b0)) rfl dX8_fits_2_12 ?_
      refine z_ifnull (r := zCy w ad d0 b0) (tgt := 36) hx hb dX8_fits_2_15 (by decide) (fun c_3 => ?_) (fun r_4 c_3 => ?_)
      · have kn_5 := zCy_none c_3
        refine lv_iconst (v := iI 0) hx hb dX8_fits_2_36 rfl ?_
        refine z_top (x := 0) (y := bI ((decide (zOg w ad d0 b0 = some (ad (kver v0)))) || (!((zCy w ad d0 b0).isNone) && (decide (some (ad (kver (w (5 + 32 * d0 + 8 + 8 * b0 + 3)))) = some (ad (kver v0))))))) (by simp [bI, c_2, c_3]) ?_
        exact J_1 _ ls hS (lv_sub hl [0, 1] rfl)
      · obtain ⟨kn_6, rfl⟩ := zCy_some c_3
        refine lv_aload_n hx hb dX8_fits_2_18 rfl (lv_at hl 1 rfl) ?_
        refine z_getN (k := 1) hx hb hts in_X10 hown hK (hR.br (d := d0) (b := b0) (by first | with_reducible assumption | exact ⟨by omega, by omega⟩ | exact ⟨⟨by omega, by omega⟩, by omega, by omega⟩ | exact ⟨⟨⟨by omega, by omega⟩, by omega, by omega⟩, by first | assumption | omega⟩)) rfl (by decide) q1049 rfl (v := va_rf (zCy w ad d0 b0)) rfl dX8_fits_2_19 ?_
        refine W.eq (g2 := F0 m 22 ls (.ref (ad (kcy d0 b0)) :: [])) (congrArg (fun z => F0 m 22 ls (va_rf z :: [])) c_3) ?_
        refine z_getN (k := 1) hx hb hts in_X15 hown hK (hR.cy (d := d0) (b := b0) (by first | with_reducible assumption | exact ⟨by omega, by omega⟩ | exact ⟨⟨by omega, by omega⟩, by omega, by omega⟩ | exact ⟨⟨⟨by omega, by omega⟩, by omega, by omega⟩, by first | assumption | omega⟩)) rfl (by decide) q1408 rfl (v := .ref (ad (kver (w (5 + 32 * d0 + 8 + 8 * b0 + 3))))) rfl dX8_fits_2_22 ?_
        refine lv_aload_n hx hb dX8_fits_2_25 rfl (lv_at hl 0 rfl) ?_
        refine z_get (k := 0) hx hb hts in_X8 hown hK ht rfl (by decide) q998 rfl (v := .ref (ad (kver v0))) rfl dX8_fits_2_26 ?_
        refine lv_acmp_ne (rx := some (ad (kver (w (5 + 32 * d0 + 8 + 8 * b0 + 3))))) (ry := some (ad (kver v0))) (tgt := 36) hx hb dX8_fits_2_29 (by decide) (fun c_7 => ?_) (fun c_7 => ?_)
        · refine lv_iconst (v := iI 0) hx hb dX8_fits_2_36 rfl ?_
          refine z_top (x := 0) (y := bI ((decide (zOg w ad d0 b0 = some (ad (kver v0)))) || (!((zCy w ad d0 b0).isNone) && (decide (some (ad (kver (w (5 + 32 * d0 + 8 + 8 * b0 + 3)))) = some (ad (kver v0))))))) (by simp [bI, c_2, c_3, c_7]) ?_
          exact J_1 _ ls hS (lv_sub hl [0, 1] rfl)
        · refine lv_iconst (v := iI 1) hx hb dX8_fits_2_32 rfl ?_
          refine lv_goto (tgt := 37) hx hb dX8_fits_2_33 (by decide) ?_
          refine z_top (x := 1) (y := bI ((decide (zOg w ad d0 b0 = some (ad (kver v0)))) || (!((zCy w ad d0 b0).isNone) && (decide (some (ad (kver (w (5 + 32 * d0 + 8 + 8 * b0 + 3)))) = some (ad (kver v0))))))) (by simp [bI, c_2, c_3, c_7]) ?_
          exact J_1 _ ls hS (lv_sub hl [0, 1] rfl)
  · exact z_iret hx hb hret (z_nar _) hlocks hS ⟨congrArg (fun z => some (Value.int (iI (bI z)))) (zcy_b hR hcd hv0 hBr), rfl⟩ (Nat.le_of_ble_eq_true rfl) (Nat.le_of_ble_eq_true rfl) dX8_fits_2_37
theorem hn_X8_fits : yX8_fits.cls ≠ "java/lang/invoke/MethodHandle" ∧ yX8_fits.cls ≠ "java/lang/invoke/VarHandle" ∧ (parseMethodDescriptor yX8_fits.desc).map (fun d => d.parameters.length) = some 1 := by decide +kernel
theorem hd_X8_fits : yX8_fits.cls = "CheckoutDesk$Store$3" ∧ yX8_fits.cls ≠ "java/lang/invoke/MethodHandle" ∧ yX8_fits.cls ≠ "java/lang/invoke/VarHandle" ∧ (parseMethodDescriptor yX8_fits.desc).map (fun d => d.parameters.length) = some 1 := ⟨rfl, hn_X8_fits⟩
abbrev rm_X8_fits : Room := { frames := 2, cells := 0, slots := 0, locals := 37 }
set_option maxHeartbeats 1000000 in
theorem cg_X8_fits (l : Launch) {G : zG} {H0 : Heap} {w : Int → Int} {ad : zKey → Nat} {mc : Int → Int} {cp : Int → Nat} {cl : Bool} {F : Nat → Prop} (hR : zR G w ad mc cp cl F H0) {v0 d0 b0 : Int} {t0 : Nat} (ht : zO G H0 t0 7 [.ref (ad (kver v0)), .ref (ad kst)]) (hv0 : 0 ≤ v0 ∧ v0 < w 3) (hcd : (0 ≤ d0 ∧ d0 < w 2) ∧ 0 ≤ b0 ∧ b0 < w (5 + 32 * d0 + 1)) (hBr : tBr w) : zM l yX8_fits (ws_ yX8_fits cX8_fits 2 (some .boolean)) rm_X8_fits G (zN H0) [.ref t0, .ref (ad (kbr d0 b0))] H0 (fun r H1 => r = some (.int (iI (bI (decide (w (5 + 32 * d0 + 8 + 8 * b0) = v0) || (decide (0 < w (5 + 32 * d0 + 8 + 8 * b0 + 1)) && decide (w (5 + 32 * d0 + 8 + 8 * b0 + 3) = v0)))))) ∧ H1 = H0) (fun _ => False) := by
  refine z_enter (by decide +kernel) (Nat.le_of_ble_eq_true rfl) ?_
  intro p e s m args below meth c ls hx hb hret hml hown hts hlocks htab hnm hK hH hl
  subst hH
  have hAn : ∀ q, s.heap.size ≤ q → (zN s.heap) q := fun _ h => h
  have hS : va_S (zN s.heap) s.heap s.heap [] := va_S.rf
  have hS0 := hS
  have hsz_0 : s.heap.size ≤ s.heap.size := Nat.le_refl _
  have hl : lv_has ls 2 [(0, .ref t0), (1, .ref (ad (kbr d0 b0)))] := hl
  obtain ⟨hD, hV, hL_, hB, hwR⟩ := hR.n
  refine lv_aload_n hx hb dX8_fits_0 rfl (lv_at hl 0 rfl) ?_
  refine lv_aload_n hx hb dX8_fits_1 rfl (lv_at hl 1 rfl) ?_
  refine va_castE (nm := "CheckoutDesk$Branch") hx hb hown (hts _ q495) (z_recv (q := (RX10, TX10, 2)) hK (hR.br (d := d0) (b := b0) (by first | with_reducible assumption | exact ⟨by omega, by omega⟩ | exact ⟨⟨by omega, by omega⟩, by omega, by omega⟩ | exact ⟨⟨⟨by omega, by omega⟩, by omega, by omega⟩, by first | assumption | omega⟩)) rfl) dX8_fits_2 ?_
  refine z_callp (vx_runV (As := [.ref (ad (kbr d0 b0))]) (rest := []) ⟨hx, hb, hml, hown, hts⟩ (cg_X8_fits_2 l hR ht hv0 hcd hBr) (cwV 1 hts (lw_V q496 q497 q498 q71 q499) rfl rfl rfl hd_X8_fits_2 ⟨Nat.le_of_ble_eq_true rfl, Nat.le_of_ble_eq_true rfl⟩) (z_preV hK hS (zN_le hAn hS) ht rfl rfl) rfl rfl hl.1 rfl (lv_room (Nat.le_of_ble_eq_true rfl)) dX8_fits_5 ⟨Nat.le_of_ble_eq_true rfl, Nat.le_of_ble_eq_true rfl⟩) hS (zN_le hAn hS) rfl rfl (fun locs hS => ?_)
  exact z_iret hx hb hret (z_nar _) hlocks hS ⟨rfl, rfl⟩ (Nat.le_of_ble_eq_true rfl) (Nat.le_of_ble_eq_true rfl) dX8_fits_8
theorem hi_X8_fits : zImp ⟨"CheckoutDesk$Test", "fits", "(Ljava/lang/Object;)Z"⟩ RX8 yX8_fits cX8_fits 2 (some .boolean) := ⟨List.mem_of_getElem? (i := 18) rfl, q490, q492, q71, q494⟩
theorem hn_X9_fits_2 : yX9_fits_2.cls ≠ "java/lang/invoke/MethodHandle" ∧ yX9_fits_2.cls ≠ "java/lang/invoke/VarHandle" ∧ (parseMethodDescriptor yX9_fits_2.desc).map (fun d => d.parameters.length) = some 1 := by decide +kernel
theorem hd_X9_fits_2 : yX9_fits_2.cls = "CheckoutDesk$Store$4" ∧ yX9_fits_2.cls ≠ "java/lang/invoke/MethodHandle" ∧ yX9_fits_2.cls ≠ "java/lang/invoke/VarHandle" ∧ (parseMethodDescriptor yX9_fits_2.desc).map (fun d => d.parameters.length) = some 1 := ⟨rfl, hn_X9_fits_2⟩
abbrev rm_X9_fits_2 : Room := { frames := 1, cells := 0, slots := 0, locals := 16 }
set_option maxHeartbeats 1000000 in
theorem cg_X9_fits_2 (l : Launch) {G : zG} {H0 : Heap} {w : Int → Int} {ad : zKey → Nat} {mc : Int → Int} {cp : Int → Nat} {cl : Bool} {F : Nat → Prop} (hR : zR G w ad mc cp cl F H0) {v0 k0 : Int} {t0 : Nat} (ht : zO G H0 t0 8 [.ref (ad (kver v0)), .ref (ad kst)]) (hv0 : 0 ≤ v0 ∧ v0 < w 3) (hk0 : 0 ≤ k0 ∧ k0 < w 4) (hLk : tLk w) : zM l yX9_fits_2 (ws_ yX9_fits_2 cX9_fits_2 2 (some .boolean)) rm_X9_fits_2 G (zN H0) [.ref t0, .ref (ad (klk k0))] H0 (fun r H1 => r = some (.int (iI (bI (decide (w (801 + 3 * k0 + 1) = 0) && decide (w (801 + 3 * k0 + 2) = v0))))) ∧ H1 = H0) (fun _ => False) := by
  refine z_enter (by decide +kernel) (Nat.le_of_ble_eq_true rfl) ?_
  intro p e s m args below meth c ls hx hb hret hml hown hts hlocks htab hnm hK hH hl
  subst hH
  have hAn : ∀ q, s.heap.size ≤ q → (zN s.heap) q := fun _ h => h
  have hS : va_S (zN s.heap) s.heap s.heap [] := va_S.rf
  have hS0 := hS
  have hsz_0 : s.heap.size ≤ s.heap.size := Nat.le_refl _
  have hl : lv_has ls 2 [(0, .ref t0), (1, .ref (ad (klk k0)))] := hl
  obtain ⟨hD, hV, hL_, hB, hwR⟩ := hR.n
  refine lv_aload_n hx hb dX9_fits_2_0 rfl (lv_at hl 1 rfl) ?_
  refine z_getN (k := 3) hx hb hts in_X13 hown hK (hR.lk (k := k0) (by first | with_reducible assumption | exact ⟨by omega, by omega⟩ | exact ⟨⟨by omega, by omega⟩, by omega, by omega⟩ | exact ⟨⟨⟨by omega, by omega⟩, by omega, by omega⟩, by first | assumption | omega⟩)) rfl (by decide) q1270 rfl (v := va_rf (zLv w ad k0)) rfl dX9_fits_2_1 ?_
  refine lv_aload_n hx hb dX9_fits_2_4 rfl (lv_at hl 0 rfl) ?_
  refine z_get (k := 0) hx hb hts in_X9 hown hK ht rfl (by decide) q1012 rfl (v := .ref (ad (kver v0))) rfl dX9_fits_2_5 ?_
  refine z_join (pc2 := 16) (nL := 2) (lv := [(0, .ref t0), (1, .ref (ad (klk k0)))]) (st2 := [.int (iI (bI (decide (zLv w ad k0 = some (ad (kver v0))))))]) hS (fun J_1 => ?_) (fun locs ls hS hl => ?_)
  · refine lv_acmp_ne (rx := zLv w ad k0) (ry := some (ad (kver v0))) (tgt := 15) hx hb dX9_fits_2_8 (by decide) (fun c_2 => ?_) (fun c_2 => ?_)
    · refine lv_iconst (v := iI 0) hx hb dX9_fits_2_15 rfl ?_
      refine z_top (x := 0) (y := bI (decide (zLv w ad k0 = some (ad (kver v0))))) (by simp [bI, c_2]) ?_
      exact J_1 _ ls hS (lv_sub hl [0, 1] rfl)
    · refine lv_iconst (v := iI 1) hx hb dX9_fits_2_11 rfl ?_
      refine lv_goto (tgt := 16) hx hb dX9_fits_2_12 (by decide) ?_
      refine z_top (x := 1) (y := bI (decide (zLv w ad k0 = some (ad (kver v0))))) (by simp [bI, c_2]) ?_
      exact J_1 _ ls hS (lv_sub hl [0, 1] rfl)
  · exact z_iret hx hb hret (z_nar _) hlocks hS ⟨congrArg (fun z => some (Value.int (iI (bI z)))) (zat_lv hR hk0 hv0 hLk), rfl⟩ (Nat.le_of_ble_eq_true rfl) (Nat.le_of_ble_eq_true rfl) dX9_fits_2_16
theorem hn_X9_fits : yX9_fits.cls ≠ "java/lang/invoke/MethodHandle" ∧ yX9_fits.cls ≠ "java/lang/invoke/VarHandle" ∧ (parseMethodDescriptor yX9_fits.desc).map (fun d => d.parameters.length) = some 1 := by decide +kernel
theorem hd_X9_fits : yX9_fits.cls = "CheckoutDesk$Store$4" ∧ yX9_fits.cls ≠ "java/lang/invoke/MethodHandle" ∧ yX9_fits.cls ≠ "java/lang/invoke/VarHandle" ∧ (parseMethodDescriptor yX9_fits.desc).map (fun d => d.parameters.length) = some 1 := ⟨rfl, hn_X9_fits⟩
abbrev rm_X9_fits : Room := { frames := 2, cells := 0, slots := 0, locals := 37 }
set_option maxHeartbeats 1000000 in
theorem cg_X9_fits (l : Launch) {G : zG} {H0 : Heap} {w : Int → Int} {ad : zKey → Nat} {mc : Int → Int} {cp : Int → Nat} {cl : Bool} {F : Nat → Prop} (hR : zR G w ad mc cp cl F H0) {v0 k0 : Int} {t0 : Nat} (ht : zO G H0 t0 8 [.ref (ad (kver v0)), .ref (ad kst)]) (hv0 : 0 ≤ v0 ∧ v0 < w 3) (hk0 : 0 ≤ k0 ∧ k0 < w 4) (hLk : tLk w) : zM l yX9_fits (ws_ yX9_fits cX9_fits 2 (some .boolean)) rm_X9_fits G (zN H0) [.ref t0, .ref (ad (klk k0))] H0 (fun r H1 => r = some (.int (iI (bI (decide (w (801 + 3 * k0 + 1) = 0) && decide (w (801 + 3 * k0 + 2) = v0))))) ∧ H1 = H0) (fun _ => False) := by
  refine z_enter (by decide +kernel) (Nat.le_of_ble_eq_true rfl) ?_
  intro p e s m args below meth c ls hx hb hret hml hown hts hlocks htab hnm hK hH hl
  subst hH
  have hAn : ∀ q, s.heap.size ≤ q → (zN s.heap) q := fun _ h => h
  have hS : va_S (zN s.heap) s.heap s.heap [] := va_S.rf
  have hS0 := hS
  have hsz_0 : s.heap.size ≤ s.heap.size := Nat.le_refl _
  have hl : lv_has ls 2 [(0, .ref t0), (1, .ref (ad (klk k0)))] := hl
  obtain ⟨hD, hV, hL_, hB, hwR⟩ := hR.n
  refine lv_aload_n hx hb dX9_fits_0 rfl (lv_at hl 0 rfl) ?_
  refine lv_aload_n hx hb dX9_fits_1 rfl (lv_at hl 1 rfl) ?_
  refine va_castE (nm := "CheckoutDesk$Link") hx hb hown (hts _ q506) (z_recv (q := (RX13, TX13, 4)) hK (hR.lk (k := k0) (by first | with_reducible assumption | exact ⟨by omega, by omega⟩ | exact ⟨⟨by omega, by omega⟩, by omega, by omega⟩ | exact ⟨⟨⟨by omega, by omega⟩, by omega, by omega⟩, by first | assumption | omega⟩)) rfl) dX9_fits_2 ?_
  refine z_callp (vx_runV (As := [.ref (ad (klk k0))]) (rest := []) ⟨hx, hb, hml, hown, hts⟩ (cg_X9_fits_2 l hR ht hv0 hk0 hLk) (cwV 1 hts (lw_V q507 q508 q509 q72 q510) rfl rfl rfl hd_X9_fits_2 ⟨Nat.le_of_ble_eq_true rfl, Nat.le_of_ble_eq_true rfl⟩) (z_preV hK hS (zN_le hAn hS) ht rfl rfl) rfl rfl hl.1 rfl (lv_room (Nat.le_of_ble_eq_true rfl)) dX9_fits_5 ⟨Nat.le_of_ble_eq_true rfl, Nat.le_of_ble_eq_true rfl⟩) hS (zN_le hAn hS) rfl rfl (fun locs hS => ?_)
  exact z_iret hx hb hret (z_nar _) hlocks hS ⟨rfl, rfl⟩ (Nat.le_of_ble_eq_true rfl) (Nat.le_of_ble_eq_true rfl) dX9_fits_8
theorem hi_X9_fits : zImp ⟨"CheckoutDesk$Test", "fits", "(Ljava/lang/Object;)Z"⟩ RX9 yX9_fits cX9_fits 2 (some .boolean) := ⟨List.mem_of_getElem? (i := 19) rfl, q501, q503, q72, q505⟩
theorem hn_X34_fits_2 : yX34_fits_2.cls ≠ "java/lang/invoke/MethodHandle" ∧ yX34_fits_2.cls ≠ "java/lang/invoke/VarHandle" ∧ (parseMethodDescriptor yX34_fits_2.desc).map (fun d => d.parameters.length) = some 1 := by decide +kernel
theorem hd_X34_fits_2 : yX34_fits_2.cls = "CheckoutDesk$19" ∧ yX34_fits_2.cls ≠ "java/lang/invoke/MethodHandle" ∧ yX34_fits_2.cls ≠ "java/lang/invoke/VarHandle" ∧ (parseMethodDescriptor yX34_fits_2.desc).map (fun d => d.parameters.length) = some 1 := ⟨rfl, hn_X34_fits_2⟩
abbrev rm_X34_fits_2 : Room := { frames := 2, cells := 0, slots := 0, locals := 36 }
set_option maxHeartbeats 1000000 in
theorem cg_X34_fits_2 (l : Launch) {G : zG} {H0 : Heap} {w : Int → Int} {ad : zKey → Nat} {mc : Int → Int} {cp : Int → Nat} {cl : Bool} {F : Nat → Prop} (hR : zR G w ad mc cp cl F H0) {x0 : Nat} {t0 : Nat} (ht : zO G H0 t0 33 [.ref x0]) {v0 : Int} (hv0 : 0 ≤ v0 ∧ v0 < w 3) : zM l yX34_fits_2 (ws_ yX34_fits_2 cX34_fits_2 2 (some .boolean)) rm_X34_fits_2 G (zN H0) [.ref t0, .ref (ad (kver v0))] H0 (fun r H1 => r = some (.int (iI (bI (tw_isVersion w v0 && tw_isReleased w v0)))) ∧ H1 = H0) (fun _ => False) := by
  refine z_enter (by decide +kernel) (Nat.le_of_ble_eq_true rfl) ?_
  intro p e s m args below meth c ls hx hb hret hml hown hts hlocks htab hnm hK hH hl
  subst hH
  have hAn : ∀ q, s.heap.size ≤ q → (zN s.heap) q := fun _ h => h
  have hS : va_S (zN s.heap) s.heap s.heap [] := va_S.rf
  have hS0 := hS
  have hsz_0 : s.heap.size ≤ s.heap.size := Nat.le_refl _
  have hl : lv_has ls 2 [(0, .ref t0), (1, .ref (ad (kver v0)))] := hl
  obtain ⟨hD, hV, hL_, hB, hwR⟩ := hR.n
  refine lv_aload_n hx hb dX34_fits_2_0 rfl (lv_at hl 1 rfl) ?_
  refine z_getN (k := 6) hx hb hts in_X12 hown hK (hR.ver (v := v0) (by first | with_reducible assumption | exact ⟨by omega, by omega⟩ | exact ⟨⟨by omega, by omega⟩, by omega, by omega⟩ | exact ⟨⟨⟨by omega, by omega⟩, by omega, by omega⟩, by first | assumption | omega⟩)) rfl (by decide) q1195 rfl (v := .int (iI (bI (zGn w v0)))) rfl dX34_fits_2_1 ?_
  refine z_join (pc2 := 19) (nL := 2) (lv := [(0, .ref t0), (1, .ref (ad (kver v0)))]) (st2 := [.int (iI (bI (!(zGn w v0) && (decide (w (261 + 9 * v0 + 3) = 0)))))]) hS (fun J_1 => ?_) (fun locs ls hS hl => ?_)
  · refine z_ifb_ne (b := zGn w v0) (tgt := 18) hx hb dX34_fits_2_4 (by decide) (fun c_2 => ?_) (fun c_2 => ?_)
    · refine lv_iconst (v := iI 0) hx hb dX34_fits_2_18 rfl ?_
      refine z_top (x := 0) (y := bI (!(zGn w v0) && (decide (w (261 + 9 * v0 + 3) = 0)))) (by simp [bI, c_2]) ?_
      exact J_1 _ ls hS (lv_sub hl [0, 1] rfl)
    · refine lv_aload_n hx hb dX34_fits_2_7 rfl (lv_at hl 1 rfl) ?_
      refine z_callp (vx_runV (As := []) (rest := []) ⟨hx, hb, hml, hown, hts⟩ (cg_X12_isReleased l (hR.ver (v := v0) (by first | with_reducible assumption | exact ⟨by omega, by omega⟩ | exact ⟨⟨by omega, by omega⟩, by omega, by omega⟩ | exact ⟨⟨⟨by omega, by omega⟩, by omega, by omega⟩, by first | assumption | omega⟩)) (by first | with_reducible assumption | with_reducible exact hwR _ | omega | exact ⟨by omega, by omega⟩)) (cwV 0 hts (lw_V q444 q387 q388 q77 q389) rfl rfl rfl hd_X12_isReleased ⟨Nat.le_of_ble_eq_true rfl, Nat.le_of_ble_eq_true rfl⟩) (z_preV hK hS (zN_le hAn hS) (hR.ver (v := v0) (by first | with_reducible assumption | exact ⟨by omega, by omega⟩ | exact ⟨⟨by omega, by omega⟩, by omega, by omega⟩ | exact ⟨⟨⟨by omega, by omega⟩, by omega, by omega⟩, by first | assumption | omega⟩)) rfl rfl) rfl rfl hl.1 rfl (lv_room (Nat.le_of_ble_eq_true rfl)) dX34_fits_2_8 ⟨Nat.le_of_ble_eq_true rfl, Nat.le_of_ble_eq_true rfl⟩) hS (zN_le hAn hS) rfl rfl (fun locs hS => ?_)
      refine z_ifb_eq (b := decide (w (261 + 9 * v0 + 3) = 0)) (tgt := 18) hx hb dX34_fits_2_11 (by decide) (fun c_3 => ?_) (fun c_3 => ?_)
      · refine lv_iconst (v := iI 0) hx hb dX34_fits_2_18 rfl ?_
        refine z_top (x := 0) (y := bI (!(zGn w v0) && (decide (w (261 + 9 * v0 + 3) = 0)))) (by simp [bI, c_2, c_3]) ?_
        exact J_1 _ ls hS (lv_sub hl [0, 1] rfl)
      · refine lv_iconst (v := iI 1) hx hb dX34_fits_2_14 rfl ?_
        refine lv_goto (tgt := 19) hx hb dX34_fits_2_15 (by decide) ?_
        refine z_top (x := 1) (y := bI (!(zGn w v0) && (decide (w (261 + 9 * v0 + 3) = 0)))) (by simp [bI, c_2, c_3]) ?_
        exact J_1 _ ls hS (lv_sub hl [0, 1] rfl)
  · exact z_iret hx hb hret (z_nar _) hlocks hS ⟨congrArg (fun z => some (Value.int (iI (bI z)))) (by rw [show tw_isVersion w v0 = !(zGn w v0) from by simp [zGn, tw_isVersion, tw_lies]; omega]; rfl), rfl⟩ (Nat.le_of_ble_eq_true rfl) (Nat.le_of_ble_eq_true rfl) dX34_fits_2_19
theorem hn_X34_fits : yX34_fits.cls ≠ "java/lang/invoke/MethodHandle" ∧ yX34_fits.cls ≠ "java/lang/invoke/VarHandle" ∧ (parseMethodDescriptor yX34_fits.desc).map (fun d => d.parameters.length) = some 1 := by decide +kernel
theorem hd_X34_fits : yX34_fits.cls = "CheckoutDesk$19" ∧ yX34_fits.cls ≠ "java/lang/invoke/MethodHandle" ∧ yX34_fits.cls ≠ "java/lang/invoke/VarHandle" ∧ (parseMethodDescriptor yX34_fits.desc).map (fun d => d.parameters.length) = some 1 := ⟨rfl, hn_X34_fits⟩
abbrev rm_X34_fits : Room := { frames := 3, cells := 0, slots := 0, locals := 57 }
set_option maxHeartbeats 1000000 in
theorem cg_X34_fits (l : Launch) {G : zG} {H0 : Heap} {w : Int → Int} {ad : zKey → Nat} {mc : Int → Int} {cp : Int → Nat} {cl : Bool} {F : Nat → Prop} (hR : zR G w ad mc cp cl F H0) {x0 : Nat} {t0 : Nat} (ht : zO G H0 t0 33 [.ref x0]) {v0 : Int} (hv0 : 0 ≤ v0 ∧ v0 < w 3) : zM l yX34_fits (ws_ yX34_fits cX34_fits 2 (some .boolean)) rm_X34_fits G (zN H0) [.ref t0, .ref (ad (kver v0))] H0 (fun r H1 => r = some (.int (iI (bI (tw_isVersion w v0 && tw_isReleased w v0)))) ∧ H1 = H0) (fun _ => False) := by
  refine z_enter (by decide +kernel) (Nat.le_of_ble_eq_true rfl) ?_
  intro p e s m args below meth c ls hx hb hret hml hown hts hlocks htab hnm hK hH hl
  subst hH
  have hAn : ∀ q, s.heap.size ≤ q → (zN s.heap) q := fun _ h => h
  have hS : va_S (zN s.heap) s.heap s.heap [] := va_S.rf
  have hS0 := hS
  have hsz_0 : s.heap.size ≤ s.heap.size := Nat.le_refl _
  have hl : lv_has ls 2 [(0, .ref t0), (1, .ref (ad (kver v0)))] := hl
  obtain ⟨hD, hV, hL_, hB, hwR⟩ := hR.n
  refine lv_aload_n hx hb dX34_fits_0 rfl (lv_at hl 0 rfl) ?_
  refine lv_aload_n hx hb dX34_fits_1 rfl (lv_at hl 1 rfl) ?_
  refine va_castE (nm := "CheckoutDesk$Version") hx hb hown (hts _ q439) (z_recv (q := (RX12, TX12, 7)) hK (hR.ver (v := v0) (by first | with_reducible assumption | exact ⟨by omega, by omega⟩ | exact ⟨⟨by omega, by omega⟩, by omega, by omega⟩ | exact ⟨⟨⟨by omega, by omega⟩, by omega, by omega⟩, by first | assumption | omega⟩)) rfl) dX34_fits_2 ?_
  refine z_callp (vx_runV (As := [.ref (ad (kver v0))]) (rest := []) ⟨hx, hb, hml, hown, hts⟩ (cg_X34_fits_2 l hR ht hv0) (cwV 1 hts (lw_V q440 q441 q442 q101 q443) rfl rfl rfl hd_X34_fits_2 ⟨Nat.le_of_ble_eq_true rfl, Nat.le_of_ble_eq_true rfl⟩) (z_preV hK hS (zN_le hAn hS) ht rfl rfl) rfl rfl hl.1 rfl (lv_room (Nat.le_of_ble_eq_true rfl)) dX34_fits_5 ⟨Nat.le_of_ble_eq_true rfl, Nat.le_of_ble_eq_true rfl⟩) hS (zN_le hAn hS) rfl rfl (fun locs hS => ?_)
  exact z_iret hx hb hret (z_nar _) hlocks hS ⟨rfl, rfl⟩ (Nat.le_of_ble_eq_true rfl) (Nat.le_of_ble_eq_true rfl) dX34_fits_8
theorem hi_X34_fits : zImp ⟨"CheckoutDesk$Test", "fits", "(Ljava/lang/Object;)Z"⟩ RX34 yX34_fits cX34_fits 2 (some .boolean) := ⟨List.mem_of_getElem? (i := 22) rfl, q434, q436, q101, q438⟩
