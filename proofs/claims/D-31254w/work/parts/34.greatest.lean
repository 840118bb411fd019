set_option maxRecDepth 100000
def zbs (w : Int → Int) (f : Nat → Bool) : Nat → Int
  | 0 => -1
  | n + 1 => if (f n && (decide (zbs w f n = -1) || tw_isBehind w n (zbs w f n))) = true then (n : Int) else zbs w f n
def zbo (ad : zKey → Nat) (x : Int) : Option Nat := if x = -1 then none else some (ad (kver x))
theorem zbo_some {ad : zKey → Nat} {x : Int} {y : Nat} (h : zbo ad x = some y) : x ≠ -1 ∧ y = ad (kver x) := by
  unfold zbo at h
  split at h
  · cases h
  · exact ⟨by assumption, (Option.some.inj h).symm⟩
theorem zbo_none {ad : zKey → Nat} {x : Int} (h : zbo ad x = none) : x = -1 := by
  unfold zbo at h
  split at h
  · assumption
  · cases h
theorem zbo_nat {ad : zKey → Nat} {x : Int} (h : x ≠ -1) : zbo ad x = some (ad (kver x)) := if_neg h
theorem zbs_R (w : Int → Int) (f : Nat → Bool) : ∀ n : Nat, -1 ≤ zbs w f n ∧ zbs w f n < n
  | 0 => by unfold zbs; omega
  | n + 1 => by
    have h := zbs_R w f n
    unfold zbs
    split <;> constructor <;> omega
theorem zbs_f {w : Int → Int} {f : Nat → Bool} {i : Nat} (h : f i = false) : zbs w f (i + 1) = zbs w f i := by
  show (if _ then _ else _) = _
  rw [h]
  rfl
theorem zbs_n {w : Int → Int} {f : Nat → Bool} {i : Nat} (h : f i = true) (h2 : zbs w f i = -1) : zbs w f (i + 1) = i := if_pos (by rw [h, h2]; rfl)
theorem zbs_b {w : Int → Int} {f : Nat → Bool} {i : Nat} (h : f i = true) (h2 : tw_isBehind w i (zbs w f i) = true) : zbs w f (i + 1) = i := if_pos (by rw [h, h2]; simp)
theorem zbs_k {w : Int → Int} {f : Nat → Bool} {i : Nat} (h1 : zbs w f i ≠ -1) (h2 : ¬ tw_isBehind w i (zbs w f i) = true) : zbs w f (i + 1) = zbs w f i := if_neg (by simp [h1, h2])
theorem zcmp {a b c d : Int} : (0 < (if a = b then c - d else a - b)) ↔ (decide (b < a) || (decide (a = b) && decide (d < c))) = true := by
  by_cases h : a = b
  · rw [if_pos h]; simp [h]
  · rw [if_neg h]; simp [h]
theorem zbs_nw {w : Int → Int} {d b : Int} : ∀ n : Nat, zbs w (fun i => tw_isOn w i d b) n = tw_nw w d b n
  | 0 => rfl
  | n + 1 => by
    unfold zbs tw_nw
    rw [zbs_nw n]
theorem zbs_op {w : Int → Int} {k p : Int} : ∀ n : Nat, zbs w (fun i => tw_isOn w i (w (801 + 3 * k + 2)) 0 && (tw_sees w p i && (decide (w (801 + 3 * k + 1) = 1) || tw_isReleased w i))) n = tw_op w k p n
  | 0 => rfl
  | n + 1 => by
    unfold zbs tw_op
    rw [zbs_op n]
def zct (f : Nat → Bool) : Nat → Int
  | 0 => 0
  | n + 1 => zct f n + bI (f n)
theorem zct_R (f : Nat → Bool) : ∀ n : Nat, 0 ≤ zct f n ∧ zct f n ≤ n
  | 0 => by unfold zct; omega
  | n + 1 => by
    have h := zct_R f n
    have := bI_01 (f n)
    unfold zct
    omega
abbrev tVer2 (w : Int → Int) : Prop := ∀ v : Int, 0 ≤ v → v < w 3 → (0 ≤ w (261 + 9 * v + 2) ∧ w (261 + 9 * v + 2) ≤ 100000) ∧ 0 ≤ w (261 + 9 * v + 3) ∧ w (261 + 9 * v + 3) ≤ 100000
theorem hi_X12_compareTo : zImp ⟨"java/lang/Comparable", "compareTo", "(Ljava/lang/Object;)I"⟩ RX12 yX12_compareTo cX12_compareTo 2 (some .int) := ⟨List.mem_of_getElem? (i := 24) rfl, q516, q518, q77, q520⟩
theorem hn_X1_greatest : yX1_greatest.cls ≠ "java/lang/invoke/MethodHandle" ∧ yX1_greatest.cls ≠ "java/lang/invoke/VarHandle" ∧ (parseMethodDescriptor yX1_greatest.desc).map (fun d => d.parameters.length) = some 2 := by decide +kernel
theorem hd_X1_greatest : yX1_greatest.cls = "CheckoutDesk" ∧ yX1_greatest.cls ≠ "java/lang/invoke/MethodHandle" ∧ yX1_greatest.cls ≠ "java/lang/invoke/VarHandle" ∧ (parseMethodDescriptor yX1_greatest.desc).map (fun d => d.parameters.length) = some 2 := ⟨rfl, hn_X1_greatest⟩
abbrev rm_X1_greatest : Room := { frames := 60, cells := 0, slots := 0, locals := 1000 }
set_option maxHeartbeats 1000000 in
theorem cg_X1_greatest (l : Launch) {G : zG} {H0 : Heap} {w : Int → Int} {ad : zKey → Nat} {mc : Int → Int} {cp : Int → Nat} {cl : Bool} {F : Nat → Prop} (hR : zR G w ad mc cp cl F H0) {t0 ct : Nat} {ft : List Value} (ht : zO G H0 t0 ct ft) {q0 : vw_C} (hq0 : zcl[ct]? = some q0) {yT : MethodName} {cT : ByteArray} {mT : Nat} {rT : Room} (hI : zImp ⟨"CheckoutDesk$Test", "fits", "(Ljava/lang/Object;)Z"⟩ q0.1 yT cT mT (some .boolean)) (hT0 : rT.cells = 0 ∧ rT.slots = 0 ∧ rT.frames ≤ 40 ∧ mT ≤ 8 ∧ rT.locals ≤ 900) (f : Nat → Bool) (hF : ∀ i : Nat, (i : Int) < w 3 → zM l yT (ws_ yT cT mT (some .boolean)) rT G (zN H0) [.ref t0, .ref (ad (kver i))] H0 (fun r H1 => r = some (.int (iI (bI (f i)))) ∧ H1 = H0) (fun _ => False)) (hVr : tVer2 w) : zM l yX1_greatest (ws_ yX1_greatest cX1_greatest 5 (some (.object "java/lang/Comparable"))) rm_X1_greatest G (zN H0) [.ref (ad (krow 1)), .ref t0] H0 (fun r H1 => r = some (va_rf (zbo ad (zbs w f (w 3).toNat))) ∧ H1 = H0) (fun _ => False) := by
  refine z_enter (by decide +kernel) (Nat.le_of_ble_eq_true rfl) ?_
  intro p e s m args below meth c ls hx hb hret hml hown hts hlocks htab hnm hK hH hl
  subst hH
  have hAn : ∀ q, s.heap.size ≤ q → (zN s.heap) q := fun _ h => h
  have hS : va_S (zN s.heap) s.heap s.heap [] := va_S.rf
  have hS0 := hS
  have hsz_0 : s.heap.size ≤ s.heap.size := Nat.le_refl _
  have hl : lv_has ls 5 [(0, .ref (ad (krow 1))), (1, .ref t0)] := hl
  obtain ⟨hD, hV, hL_, hB, hwR⟩ := hR.n
  obtain ⟨hT0, hT1, hT2, hT3, hT4⟩ := hT0
  have hT0 : rT.cells = 0 ∧ rT.slots = 0 := ⟨hT0, hT1⟩
  refine lv_null hx hb dX1_greatest_0 ?_
  refine lv_astore_nN (lv' := [(2, .null), (0, .ref (ad (krow 1))), (1, .ref t0)]) hx hb dX1_greatest_1 rfl hl (by decide) rfl (fun ls hl => ?_)
  refine lv_iconst (v := iI 0) hx hb dX1_greatest_2 rfl ?_
  refine lv_istore_n (lv' := [(3, .int (iI 0)), (2, .null), (0, .ref (ad (krow 1))), (1, .ref t0)]) hx hb dX1_greatest_3 rfl hl (by decide) rfl (fun ls hl => ?_)
  refine z_loop (H0 := s.heap) (nL := 5) (hd := 4) (fun i_1 : Nat => [(2, va_rf (zbo ad (zbs w f i_1))), (3, .int (iI ((i_1 : Nat) : Int))), (0, .ref (ad (krow 1))), (1, .ref t0)]) (fun i_1 : Nat => (i_1 : Int) ≤ w 3) (fun i_1 : Nat => (w 3 : Int).toNat - i_1) (fun i_1 locs hi_1 hS ih_2 ls hl => ?_) 0 _ ?_ hS ls (z_lvren (lv_sub hl [1, 0, 2, 3] rfl) (by rfl))
  · have hl : lv_has ls 5 [(2, va_rf (zbo ad (zbs w f i_1))), (3, .int (iI ((i_1 : Nat) : Int))), (0, .ref (ad (krow 1))), (1, .ref t0)] := hl
    have hi_1 : (i_1 : Int) ≤ w 3 := hi_1
    have hzr := zbs_R w f i_1
    refine lv_iload_n hx hb dX1_greatest_4 rfl (lv_at hl 1 rfl) ?_
    refine lv_aload_n hx hb dX1_greatest_5 rfl (lv_at hl 2 rfl) ?_
    refine z_callp (vx_runV (As := []) (rest := [.int (iI ((i_1 : Nat) : Int))]) ⟨hx, hb, hml, hown, hts⟩ (cg_X3_size l hR.rowV (hR.lstV (z_eD hK hS))) (cwV 0 hts (lw_V q231 q232 q233 q48 q234) rfl rfl rfl hd_X3_size ⟨Nat.le_of_ble_eq_true rfl, Nat.le_of_ble_eq_true rfl⟩) (z_preV hK hS (zN_le hAn hS) hR.rowV rfl rfl) rfl rfl hl.1 rfl (lv_room (Nat.le_of_ble_eq_true rfl)) dX1_greatest_6 ⟨Nat.le_of_ble_eq_true rfl, Nat.le_of_ble_eq_true rfl⟩) hS (zN_le hAn hS) rfl rfl (fun locs hS => ?_)
    refine z_icmp_ge (x := ((i_1 : Nat) : Int)) (y := w 3) (tgt := 57) hx hb (by first | with_reducible assumption | with_reducible exact hwR _ | omega | exact ⟨by omega, by omega⟩) (by first | with_reducible assumption | with_reducible exact hwR _ | omega | exact ⟨by omega, by omega⟩) dX1_greatest_9 (by decide) (fun c_3 => ?_) (fun c_3 => ?_)
    · refine z_aloadq_n hx hb dX1_greatest_57 rfl (lv_at hl 0 rfl) ?_
      exact z_aret (r := zbo ad (zbs w f i_1)) hx hb hret (Or.inl ⟨_, rfl⟩) hlocks hS ⟨congrArg (fun z => some (va_rf (zbo ad (zbs w f z)))) (by omega), rfl⟩ (Nat.le_of_ble_eq_true rfl) (Nat.le_of_ble_eq_true rfl) dX1_greatest_58
    · refine lv_aload_n hx hb dX1_greatest_12 rfl (lv_at hl 2 rfl) ?_
      refine lv_iload_n hx hb dX1_greatest_13 rfl (lv_at hl 1 rfl) ?_
      have c_4 : 0 ≤ ((i_1 : Nat) : Int) ∧ ((i_1 : Nat) : Int) < w 3 := ⟨by omega, by omega⟩
      refine z_callp (vx_runV (As := [.int (iI ((i_1 : Nat) : Int))]) (rest := []) ⟨hx, hb, hml, hown, hts⟩ (cg_X3_get l (i0 := ((i_1 : Nat) : Int)) (x0 := ad (kver ((i_1 : Nat) : Int))) hR.rowV (hR.lstV (z_eD hK hS)) (by first | with_reducible assumption | with_reducible exact hwR _ | omega | exact ⟨by omega, by omega⟩) c_4 (zad_n (ad := ad) (fun z => kver z) (by omega))) (cwV 1 hts (lw_V q409 q292 q293 q48 q294) rfl rfl rfl hd_X3_get ⟨Nat.le_of_ble_eq_true rfl, Nat.le_of_ble_eq_true rfl⟩) (z_preV hK hS (zN_le hAn hS) hR.rowV rfl rfl) rfl rfl hl.1 rfl (lv_room (Nat.le_of_ble_eq_true rfl)) dX1_greatest_14 ⟨Nat.le_of_ble_eq_true rfl, Nat.le_of_ble_eq_true rfl⟩) hS (zN_le hAn hS) rfl rfl (fun locs hS => ?_)
      refine z_cast hx hb hts hown q410 hK (hR.ver (v := ((i_1 : Nat) : Int)) (by first | with_reducible assumption | exact ⟨by omega, by omega⟩ | exact ⟨⟨by omega, by omega⟩, by omega, by omega⟩ | exact ⟨⟨⟨by omega, by omega⟩, by omega, by omega⟩, by first | assumption | omega⟩)) rfl rfl q515 dX1_greatest_17 ?_
      refine lv_astore (lv' := [(4, .ref (ad (kver ((i_1 : Nat) : Int)))), (2, va_rf (zbo ad (zbs w f i_1))), (3, .int (iI ((i_1 : Nat) : Int))), (0, .ref (ad (krow 1))), (1, .ref t0)]) hx hb dX1_greatest_20 hl (by decide) rfl (fun ls hl => ?_)
      refine lv_aload_n hx hb dX1_greatest_22 rfl (lv_at hl 4 rfl) ?_
      refine lv_aload hx hb dX1_greatest_23 (lv_at hl 0 rfl) ?_
      refine z_callp5 (z_runF hI hx hb hml hown hts (hF i_1 (by omega)) hK hS (zN_le hAn hS) ht hq0 rfl q412 (by decide +kernel) ⟨by show _ ≤ 60; omega, by show _ ≤ 1000; omega⟩ hl.1 (Nat.le_of_ble_eq_true rfl) dX1_greatest_25 ⟨by show _ ≤ 0; omega, by show _ ≤ 0; omega⟩) hS (zN_le hAn hS) hT0.1 hT0.2 (fun locs hS => ?_)
      refine z_ifb_eq (b := f i_1) (tgt := 51) hx hb dX1_greatest_30 (by decide) (fun c_5 => ?_) (fun c_5 => ?_)
      · refine lv_iinc (v := iI (((i_1 : Nat) : Int) + 1)) (lv' := [(3, .int (iI (((i_1 : Nat) : Int) + 1))), (4, .ref (ad (kver ((i_1 : Nat) : Int)))), (2, va_rf (zbo ad (zbs w f i_1))), (0, .ref (ad (krow 1))), (1, .ref t0)]) hx hb dX1_greatest_51 hl (k := 2) rfl (iI_add _ _) (by decide) (by simp [z_cat1]) (fun ls hl => ?_)
        refine lv_goto (tgt := 4) hx hb dX1_greatest_54 (by decide) ?_
        have hz := zbs_f (w := w) (by simpa using c_5 : f i_1 = false)
        exact ih_2 (i_1 + 1) locs (by omega) hS (by omega) ls (z_lvren (lv_sub hl [2, 0, 3, 4] rfl) (by rw [hz]; rfl))
      · refine z_aloadq_n hx hb dX1_greatest_33 rfl (lv_at hl 1 rfl) ?_
        refine z_ifnull (r := zbo ad (zbs w f i_1)) (tgt := 48) hx hb dX1_greatest_34 (by decide) (fun c_6 => ?_) (fun r_7 c_6 => ?_)
        · have kn_8 := zbo_none c_6
          have hl := z_lvren hl (show [(4, .ref (ad (kver ((i_1 : Nat) : Int)))), (2, va_rf (zbo ad (zbs w f i_1))), (3, .int (iI ((i_1 : Nat) : Int))), (0, .ref (ad (krow 1))), (1, .ref t0)] = [(4, .ref (ad (kver ((i_1 : Nat) : Int)))), (2, .null), (3, .int (iI ((i_1 : Nat) : Int))), (0, .ref (ad (krow 1))), (1, .ref t0)] by rw [c_6]; rfl)
          refine lv_aload hx hb dX1_greatest_48 (lv_at hl 0 rfl) ?_
          refine lv_astore_n (lv' := [(2, .ref (ad (kver ((i_1 : Nat) : Int)))), (4, .ref (ad (kver ((i_1 : Nat) : Int)))), (3, .int (iI ((i_1 : Nat) : Int))), (0, .ref (ad (krow 1))), (1, .ref t0)]) hx hb dX1_greatest_50 rfl hl (by decide) rfl (fun ls hl => ?_)
          refine lv_iinc (v := iI (((i_1 : Nat) : Int) + 1)) (lv' := [(3, .int (iI (((i_1 : Nat) : Int) + 1))), (2, .ref (ad (kver ((i_1 : Nat) : Int)))), (4, .ref (ad (kver ((i_1 : Nat) : Int)))), (0, .ref (ad (krow 1))), (1, .ref t0)]) hx hb dX1_greatest_51 hl (k := 2) rfl (iI_add _ _) (by decide) rfl (fun ls hl => ?_)
          refine lv_goto (tgt := 4) hx hb dX1_greatest_54 (by decide) ?_
          have hz := zbs_n (w := w) c_5 (zbo_none c_6)
          have hzo := zbo_nat (ad := ad) (x := ((i_1 : Nat) : Int)) (by omega)
          exact ih_2 (i_1 + 1) locs (by omega) hS (by omega) ls (z_lvren (lv_sub hl [1, 0, 3, 4] rfl) (by rw [hz, hzo]; rfl))
        · obtain ⟨kn_9, rfl⟩ := zbo_some c_6
          have hl := z_lvren hl (show [(4, .ref (ad (kver ((i_1 : Nat) : Int)))), (2, va_rf (zbo ad (zbs w f i_1))), (3, .int (iI ((i_1 : Nat) : Int))), (0, .ref (ad (krow 1))), (1, .ref t0)] = [(4, .ref (ad (kver ((i_1 : Nat) : Int)))), (2, .ref (ad (kver (zbs w f i_1)))), (3, .int (iI ((i_1 : Nat) : Int))), (0, .ref (ad (krow 1))), (1, .ref t0)] by rw [c_6]; rfl)
          refine lv_aload hx hb dX1_greatest_37 (lv_at hl 0 rfl) ?_
          refine lv_aload_n hx hb dX1_greatest_39 rfl (lv_at hl 1 rfl) ?_
          have hvi := hVr ((i_1 : Nat) : Int) (by omega) (by omega)
          have hvb := hVr (zbs w f i_1) (by omega) (by omega)
          refine z_callp5 (z_runF hi_X12_compareTo hx hb hml hown hts (cg_X12_compareTo l (hR.ver (v := ((i_1 : Nat) : Int)) (by first | with_reducible assumption | exact ⟨by omega, by omega⟩ | exact ⟨⟨by omega, by omega⟩, by omega, by omega⟩ | exact ⟨⟨⟨by omega, by omega⟩, by omega, by omega⟩, by first | assumption | omega⟩)) (hR.ver (v := (zbs w f i_1)) (by first | with_reducible assumption | exact ⟨by omega, by omega⟩ | exact ⟨⟨by omega, by omega⟩, by omega, by omega⟩ | exact ⟨⟨⟨by omega, by omega⟩, by omega, by omega⟩, by first | assumption | omega⟩)) ⟨by omega, by omega, by omega, by omega, by omega, by omega, by omega, by omega⟩) hK hS (zN_le hAn hS) (hR.ver (v := ((i_1 : Nat) : Int)) (by first | with_reducible assumption | exact ⟨by omega, by omega⟩ | exact ⟨⟨by omega, by omega⟩, by omega, by omega⟩ | exact ⟨⟨⟨by omega, by omega⟩, by omega, by omega⟩, by first | assumption | omega⟩)) (rfl : zcl[11]? = some (RX12, TX12, 7)) rfl q512 (by decide +kernel) ⟨by show _ ≤ 60; decide, by show _ ≤ 1000; decide⟩ hl.1 (Nat.le_of_ble_eq_true rfl) dX1_greatest_40 ⟨Nat.le_of_ble_eq_true rfl, Nat.le_of_ble_eq_true rfl⟩) hS (zN_le hAn hS) rfl rfl (fun locs hS => ?_)
          refine z_if_le (x := if w (261 + 9 * ((i_1 : Nat) : Int) + 2) = w (261 + 9 * (zbs w f i_1) + 2) then w (261 + 9 * ((i_1 : Nat) : Int) + 3) - w (261 + 9 * (zbs w f i_1) + 3) else w (261 + 9 * ((i_1 : Nat) : Int) + 2) - w (261 + 9 * (zbs w f i_1) + 2)) (tgt := 51) hx hb (by (repeat' split) <;> first | decide | assumption | exact ⟨by omega, by omega⟩) dX1_greatest_45 (by decide) (fun c_10 => ?_) (fun c_10 => ?_)
          · refine lv_iinc (v := iI (((i_1 : Nat) : Int) + 1)) (lv' := [(3, .int (iI (((i_1 : Nat) : Int) + 1))), (4, .ref (ad (kver ((i_1 : Nat) : Int)))), (2, .ref (ad (kver (zbs w f i_1)))), (0, .ref (ad (krow 1))), (1, .ref t0)]) hx hb dX1_greatest_51 hl (k := 2) rfl (iI_add _ _) (by decide) rfl (fun ls hl => ?_)
            refine lv_goto (tgt := 4) hx hb dX1_greatest_54 (by decide) ?_
            have hz := zbs_k (w := w) kn_9 (fun q => c_10 (zcmp.mpr q))
            have hzo := zbo_nat (ad := ad) (x := zbs w f i_1) kn_9
            exact ih_2 (i_1 + 1) locs (by omega) hS (by omega) ls (z_lvren (lv_sub hl [2, 0, 3, 4] rfl) (by rw [hz, hzo]; rfl))
          · refine lv_aload hx hb dX1_greatest_48 (lv_at hl 0 rfl) ?_
            refine lv_astore_n (lv' := [(2, .ref (ad (kver ((i_1 : Nat) : Int)))), (4, .ref (ad (kver ((i_1 : Nat) : Int)))), (3, .int (iI ((i_1 : Nat) : Int))), (0, .ref (ad (krow 1))), (1, .ref t0)]) hx hb dX1_greatest_50 rfl hl (by decide) rfl (fun ls hl => ?_)
            refine lv_iinc (v := iI (((i_1 : Nat) : Int) + 1)) (lv' := [(3, .int (iI (((i_1 : Nat) : Int) + 1))), (2, .ref (ad (kver ((i_1 : Nat) : Int)))), (4, .ref (ad (kver ((i_1 : Nat) : Int)))), (0, .ref (ad (krow 1))), (1, .ref t0)]) hx hb dX1_greatest_51 hl (k := 2) rfl (iI_add _ _) (by decide) rfl (fun ls hl => ?_)
            refine lv_goto (tgt := 4) hx hb dX1_greatest_54 (by decide) ?_
            have hz := zbs_b (w := w) c_5 (zcmp.mp c_10)
            have hzo := zbo_nat (ad := ad) (x := ((i_1 : Nat) : Int)) (by omega)
            exact ih_2 (i_1 + 1) locs (by omega) hS (by omega) ls (z_lvren (lv_sub hl [1, 0, 3, 4] rfl) (by rw [hz, hzo]; rfl))
  · exact by omega
theorem hn_X3_count : yX3_count.cls ≠ "java/lang/invoke/MethodHandle" ∧ yX3_count.cls ≠ "java/lang/invoke/VarHandle" ∧ (parseMethodDescriptor yX3_count.desc).map (fun d => d.parameters.length) = some 1 := by decide +kernel
theorem hd_X3_count : yX3_count.cls = "CheckoutDesk$Row" ∧ yX3_count.cls ≠ "java/lang/invoke/MethodHandle" ∧ yX3_count.cls ≠ "java/lang/invoke/VarHandle" ∧ (parseMethodDescriptor yX3_count.desc).map (fun d => d.parameters.length) = some 1 := ⟨rfl, hn_X3_count⟩
abbrev rm_X3_count : Room := { frames := 60, cells := 0, slots := 0, locals := 1000 }
set_option maxHeartbeats 1000000 in
theorem cg_X3_count (l : Launch) {G : zG} {H0 : Heap} {rw_ al ar cp : Nat} {mo mc n : Int} {el : Nat → Nat} (h1 : zO G H0 rw_ 2 [.ref al, .int (iI mo)]) (hL : zLst G H0 al ar mc n cp el) {t0 ct : Nat} {ft : List Value} (ht : zO G H0 t0 ct ft) {q0 : vw_C} (hq0 : zcl[ct]? = some q0) {yT : MethodName} {cT : ByteArray} {mT : Nat} {rT : Room} (hI : zImp ⟨"CheckoutDesk$Test", "fits", "(Ljava/lang/Object;)Z"⟩ q0.1 yT cT mT (some .boolean)) (hT0 : rT.cells = 0 ∧ rT.slots = 0 ∧ rT.frames ≤ 40 ∧ mT ≤ 8 ∧ rT.locals ≤ 900) (f : Nat → Bool) (hF : ∀ i : Nat, (i : Int) < n → zM l yT (ws_ yT cT mT (some .boolean)) rT G (zN H0) [.ref t0, .ref (el i)] H0 (fun r H1 => r = some (.int (iI (bI (f i)))) ∧ H1 = H0) (fun _ => False)) : zM l yX3_count (ws_ yX3_count cX3_count 4 (some .int)) rm_X3_count G (zN H0) [.ref rw_, .ref t0] H0 (fun r H1 => r = some (.int (iI (zct f n.toNat))) ∧ H1 = H0) (fun _ => False) := by
  refine z_enter (by decide +kernel) (Nat.le_of_ble_eq_true rfl) ?_
  intro p e s m args below meth c ls hx hb hret hml hown hts hlocks htab hnm hK hH hl
  subst hH
  have hAn : ∀ q, s.heap.size ≤ q → (zN s.heap) q := fun _ h => h
  have hS : va_S (zN s.heap) s.heap s.heap [] := va_S.rf
  have hS0 := hS
  have hsz_0 : s.heap.size ≤ s.heap.size := Nat.le_refl _
  have hl : lv_has ls 4 [(0, .ref rw_), (1, .ref t0)] := hl
  have hbd := hL.2.2.1
  have hcp := hL.2.2.2.1
  have hne := hL.2.2.2.2
  obtain ⟨hT0, hT1, hT2, hT3, hT4⟩ := hT0
  have hT0 : rT.cells = 0 ∧ rT.slots = 0 := ⟨hT0, hT1⟩
  refine lv_iconst (v := iI 0) hx hb dX3_count_0 rfl ?_
  refine lv_istore_n (lv' := [(2, .int (iI 0)), (0, .ref rw_), (1, .ref t0)]) hx hb dX3_count_1 rfl hl (by decide) rfl (fun ls hl => ?_)
  refine lv_iconst (v := iI 0) hx hb dX3_count_2 rfl ?_
  refine lv_istore_n (lv' := [(3, .int (iI 0)), (2, .int (iI 0)), (0, .ref rw_), (1, .ref t0)]) hx hb dX3_count_3 rfl hl (by decide) rfl (fun ls hl => ?_)
  refine z_loop (H0 := s.heap) (nL := 4) (hd := 4) (fun i_1 : Nat => [(2, .int (iI (zct f i_1))), (3, .int (iI ((i_1 : Nat) : Int))), (0, .ref rw_), (1, .ref t0)]) (fun i_1 : Nat => (i_1 : Int) ≤ n) (fun i_1 : Nat => (n : Int).toNat - i_1) (fun i_1 locs hi_1 hS ih_2 ls hl => ?_) 0 _ ?_ hS ls (z_lvren (lv_sub hl [1, 0, 2, 3] rfl) (by rfl))
  · have hl : lv_has ls 4 [(2, .int (iI (zct f i_1))), (3, .int (iI ((i_1 : Nat) : Int))), (0, .ref rw_), (1, .ref t0)] := hl
    have hi_1 : (i_1 : Int) ≤ n := hi_1
    have hzr := zct_R f i_1
    refine lv_iload_n hx hb dX3_count_4 rfl (lv_at hl 1 rfl) ?_
    refine lv_aload_n hx hb dX3_count_5 rfl (lv_at hl 2 rfl) ?_
    refine z_get (k := 0) hx hb hts in_X3 hown hK h1 rfl (by decide) q158 rfl (v := .ref al) rfl dX3_count_6 ?_
    refine z_callp (vx_runV (As := []) (rest := [.int (iI ((i_1 : Nat) : Int))]) ⟨hx, hb, hml, hown, hts⟩ (cg_J2_size l hL.1) (cwV 0 hts (lw_V q235 q216 q217 q46 q218) rfl rfl rfl hd_J2_size ⟨Nat.le_of_ble_eq_true rfl, Nat.le_of_ble_eq_true rfl⟩) (z_preV hK hS (zN_le hAn hS) hL.1 rfl rfl) rfl rfl hl.1 rfl (lv_room (Nat.le_of_ble_eq_true rfl)) dX3_count_9 ⟨Nat.le_of_ble_eq_true rfl, Nat.le_of_ble_eq_true rfl⟩) hS (zN_le hAn hS) rfl rfl (fun locs hS => ?_)
    refine z_icmp_ge (x := ((i_1 : Nat) : Int)) (y := n) (tgt := 41) hx hb (by first | with_reducible assumption | with_reducible exact hwR _ | omega | exact ⟨by omega, by omega⟩) (by first | with_reducible assumption | with_reducible exact hwR _ | omega | exact ⟨by omega, by omega⟩) dX3_count_12 (by decide) (fun c_3 => ?_) (fun c_3 => ?_)
    · refine lv_iload_n hx hb dX3_count_41 rfl (lv_at hl 0 rfl) ?_
      exact z_iret hx hb hret rfl hlocks hS ⟨congrArg (fun z => some (Value.int (iI (zct f z)))) (by omega), rfl⟩ (Nat.le_of_ble_eq_true rfl) (Nat.le_of_ble_eq_true rfl) dX3_count_42
    · refine lv_aload_n hx hb dX3_count_15 rfl (lv_at hl 3 rfl) ?_
      refine lv_aload_n hx hb dX3_count_16 rfl (lv_at hl 2 rfl) ?_
      refine z_get (k := 0) hx hb hts in_X3 hown hK h1 rfl (by decide) q158 rfl (v := .ref al) rfl dX3_count_17 ?_
      refine lv_iload_n hx hb dX3_count_20 rfl (lv_at hl 1 rfl) ?_
      refine z_callp (vx_runV (As := [.int (iI ((i_1 : Nat) : Int))]) (rest := [.ref t0]) ⟨hx, hb, hml, hown, hts⟩ (cg_J2_get l hL (i0 := ((i_1 : Nat) : Int)) ⟨by omega, by omega⟩) (cwV 1 hts (lw_V q254 q255 q256 q46 q257) rfl rfl rfl hd_J2_get ⟨Nat.le_of_ble_eq_true rfl, Nat.le_of_ble_eq_true rfl⟩) (z_preV hK hS (zN_le hAn hS) hL.1 rfl rfl) rfl rfl hl.1 rfl (lv_room (Nat.le_of_ble_eq_true rfl)) dX3_count_21 ⟨Nat.le_of_ble_eq_true rfl, Nat.le_of_ble_eq_true rfl⟩) hS (zN_le hAn hS) rfl rfl (fun locs hS => ?_)
      refine z_callp5 (z_runF hI hx hb hml hown hts (hF i_1 (by omega)) hK hS (zN_le hAn hS) ht hq0 rfl q269 (by decide +kernel) ⟨by show _ ≤ 60; omega, by show _ ≤ 1000; omega⟩ hl.1 (Nat.le_of_ble_eq_true rfl) dX3_count_24 ⟨by show _ ≤ 0; omega, by show _ ≤ 0; omega⟩) hS (zN_le hAn hS) hT0.1 hT0.2 (fun locs hS => ?_)
      refine z_ifb_eq (b := f i_1) (tgt := 35) hx hb dX3_count_29 (by decide) (fun c_4 => ?_) (fun c_4 => ?_)
      · refine lv_iinc (v := iI (((i_1 : Nat) : Int) + 1)) (lv' := [(3, .int (iI (((i_1 : Nat) : Int) + 1))), (2, .int (iI (zct f i_1))), (0, .ref rw_), (1, .ref t0)]) hx hb dX3_count_35 hl (k := 1) rfl (iI_add _ _) (by decide) rfl (fun ls hl => ?_)
        refine lv_goto (tgt := 4) hx hb dX3_count_38 (by decide) ?_
        have hz : zct f (i_1 + 1) = zct f i_1 := by simp [zct, bI, show f i_1 = false by simpa using c_4]
        exact ih_2 (i_1 + 1) locs (by omega) hS (by omega) ls (z_lvren (lv_sub hl [1, 0, 2, 3] rfl) (by rw [hz]; rfl))
      · refine lv_iinc (v := iI (zct f i_1 + 1)) (lv' := [(2, .int (iI (zct f i_1 + 1))), (3, .int (iI ((i_1 : Nat) : Int))), (0, .ref rw_), (1, .ref t0)]) hx hb dX3_count_32 hl (k := 0) rfl (iI_add _ _) (by decide) rfl (fun ls hl => ?_)
        refine lv_iinc (v := iI (((i_1 : Nat) : Int) + 1)) (lv' := [(3, .int (iI (((i_1 : Nat) : Int) + 1))), (2, .int (iI (zct f i_1 + 1))), (0, .ref rw_), (1, .ref t0)]) hx hb dX3_count_35 hl (k := 1) rfl (iI_add _ _) (by decide) rfl (fun ls hl => ?_)
        refine lv_goto (tgt := 4) hx hb dX3_count_38 (by decide) ?_
        have hz : zct f (i_1 + 1) = zct f i_1 + 1 := by simp [zct, bI, c_4]
        exact ih_2 (i_1 + 1) locs (by omega) hS (by omega) ls (z_lvren (lv_sub hl [1, 0, 2, 3] rfl) (by rw [hz]; rfl))
  · exact by omega
