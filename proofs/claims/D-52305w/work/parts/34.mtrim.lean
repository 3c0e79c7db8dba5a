set_option maxHeartbeats 4000000 in
set_option maxRecDepth 100000 in
theorem mt_trim (l : Launch) (E : xG) (mo aS aT aW aO : Nat) (tr : Nat → Nat) (th : Int32) (n : Nat) (so : Nat → Nat) (m : Nat) (ts : Nat → Nat → Nat) (sh : Int32) (row : Nat) (rw : Nat → Int32) (sz : Nat) (hn : n ≤ 40) (hd : ∀ q, xMf mo aS aT tr q → q ≠ row) (hso : ∀ k, so k < 5) (hts9 : ∀ e k, ts e k ≤ 9) : Met l yX4_trim (ws_ yX4_trim cX4_trim 9 none) ({ frames := 4, cells := 2, slots := 6, locals := 160 } : Room) (xPre E (fun q => q = row ∨ sz ≤ q) [.ref mo, .ref row] (fun H => H.size = sz ∧ xM0 E mo aS aT aW aO tr th n so m ts sh H ∧ xI E row 40 rw H)) (xQv (fun q => q = row ∨ sz ≤ q) (fun H => xI E row 40 (wTrim (tk ts so) n rw) H)) 2 6 (fun q => q = row ∨ sz ≤ q) := by
  refine Met.ofW (cc := cX4_trim) (maxL := 9) (ret := none) (by decide) rfl ?_
  intro P0 e0 s m0 args below meth c0 s₁ B hml hv
  obtain ⟨rfl, hE, hsz, hM, hR⟩ := hv
  have hx := B.exec
  have hb := B.bytes
  have hr := B.returns
  have hts := atoms_spec (ws := ws_ yX4_trim cX4_trim 9 none) B.pre
  have hts : ∀ w ∈ lw_all, w.before _ s = true := fun w h => hts w (List.mem_cons_of_mem _ h)
  have hown : s.vm.findClass RX4 = some m0.cls := findClass_of_methodNamed B.named
  have hlocks := B.notSynchronized
  have hS : va_S (fun q => q = row ∨ sz ≤ q) s.heap s.heap [] := va_S.rf
  have hl := lv_entry ([.ref mo, .ref row]) (n := 9) (Nat.le_of_ble_eq_true rfl)
  rw [lg_entry_eq]
  generalize (lg_sl ([.ref mo, .ref row]) ++ List.replicate (9 - (lg_sl ([.ref mo, .ref row])).length) Slot.unset).toArray = ls at hl ⊢
  have hl : lv_has ls 9 [(0, .ref mo), (1, .ref row)] := hl
  have hM0 := hM
  have hR0 := hR.lt
  refine lv_iconst (v := (nI 3)) hx hb dX4_trim_0 (by decide) ?_
  refine xr_newi hx hb (hts _ q680) hE hS (n := 3) (by omega) (show 0 + 1 ≤ 2 by omega) (show 0 + 3 ≤ 6 by omega) dX4_trim_1 (fun aB H_1 eaB hB hz_2 ho_3 hS => ?_)
  have hM := hM.kept (fun q hq => ho_3 q (hM.lt hq))
  have hR := hR.kept (ho_3 _ (hR.lt))
  have hBM : ∀ q, xMf mo aS aT tr q → q ≠ aB := fun q hq => by have := hM0.lt hq; omega
  have hBr : row ≠ aB := by omega
  have hBz : sz ≤ aB := by omega
  refine lv_dup hx hb dX4_trim_3 rfl ?_
  refine lv_iconst (v := (nI 0)) hx hb dX4_trim_4 (by decide) ?_
  refine lv_iconst (v := (nI 0)) hx hb dX4_trim_5 (by decide) ?_
  refine xr_iast hx hb hE hS (Or.inr hBz) hB (i := 0) (by omega) (by omega) dX4_trim_6 (fun H_4 L_5 hB hz_6 ho_7 hS => ?_)
  have hM := hM.kept (fun q hq => ho_7 q (hBM q hq))
  have hR := hR.kept (ho_7 _ (hBr))
  refine lv_dup hx hb dX4_trim_7 rfl ?_
  refine lv_iconst (v := (nI 1)) hx hb dX4_trim_8 (by decide) ?_
  refine lv_aload_n hx hb dX4_trim_9 rfl (lv_at hl 0 rfl) ?_
  refine lv_iconst (v := (nI 0)) hx hb dX4_trim_10 (by decide) ?_
  refine lv_iconst (v := (nI 0)) hx hb dX4_trim_11 (by decide) ?_
  refine lv_iconst (v := (nI 3)) hx hb dX4_trim_12 (by decide) ?_
  refine lv_iconst (v := (nI 0)) hx hb dX4_trim_13 (by decide) ?_
  refine xr_ro (va_runV (As := [.int (nI 0), .int (nI 0), .int (nI 3), .int (nI 0)]) (rest := [.int (nI 1), .ref aB, .ref aB]) ⟨hx, hb, hml, hown, hts⟩ (mt_cut l E (fun q => q = row ∨ sz ≤ q) mo aS aT aW aO tr th n so m ts sh 0 0 3 0 (by omega) hn (by omega) (by omega) (by omega) hso hts9) (cwV 4 hts (lw_V q868 q870 qs18 q44 q871) rfl rfl rfl (by decide +kernel) ⟨Nat.le_of_ble_eq_true rfl, Nat.le_of_ble_eq_true rfl⟩) ⟨xPre_blind, ((hM).1).recv hE rfl, fun U hU hW => xPre_at hE hS (fun _ h => h) hM hU hW⟩ rfl rfl hl.1 rfl (lv_room (Nat.le_of_ble_eq_true rfl)) dX4_trim_14 ⟨(show 1 + 0 ≤ 2 by omega), (show 3 + 0 ≤ 6 by omega)⟩) ?_
  have hc1 := ct_le (f := tk ts so 0) (n := n) (b := 0) (parts := 3) (part := 0) (Nat.zero_le _)
  generalize hc1e : ct (tk ts so 0) n 0 3 0 = c1 at hc1 ⊢
  refine xr_iast hx hb hE hS (Or.inr hBz) hB (i := 1) (by omega) (by omega) dX4_trim_17 (fun H_8 L_9 hB hz_10 ho_11 hS => ?_)
  have hM := hM.kept (fun q hq => ho_11 q (hBM q hq))
  have hR := hR.kept (ho_11 _ (hBr))
  refine lv_dup hx hb dX4_trim_18 rfl ?_
  refine lv_iconst (v := (nI 2)) hx hb dX4_trim_19 (by decide) ?_
  refine lv_aload_n hx hb dX4_trim_20 rfl (lv_at hl 0 rfl) ?_
  refine lv_iconst (v := (nI 0)) hx hb dX4_trim_21 (by decide) ?_
  refine lv_iconst (v := (nI 0)) hx hb dX4_trim_22 (by decide) ?_
  refine lv_iconst (v := (nI 3)) hx hb dX4_trim_23 (by decide) ?_
  refine lv_iconst (v := (nI 1)) hx hb dX4_trim_24 (by decide) ?_
  refine xr_ro (va_runV (As := [.int (nI 0), .int (nI 0), .int (nI 3), .int (nI 1)]) (rest := [.int (nI 2), .ref aB, .ref aB]) ⟨hx, hb, hml, hown, hts⟩ (mt_cut l E (fun q => q = row ∨ sz ≤ q) mo aS aT aW aO tr th n so m ts sh 0 0 3 1 (by omega) hn (by omega) (by omega) (by omega) hso hts9) (cwV 4 hts (lw_V q868 q870 qs18 q44 q871) rfl rfl rfl (by decide +kernel) ⟨Nat.le_of_ble_eq_true rfl, Nat.le_of_ble_eq_true rfl⟩) ⟨xPre_blind, ((hM).1).recv hE rfl, fun U hU hW => xPre_at hE hS (fun _ h => h) hM hU hW⟩ rfl rfl hl.1 rfl (lv_room (Nat.le_of_ble_eq_true rfl)) dX4_trim_25 ⟨(show 1 + 0 ≤ 2 by omega), (show 3 + 0 ≤ 6 by omega)⟩) ?_
  have hc2 := ct_le (f := tk ts so 0) (n := n) (b := 0) (parts := 3) (part := 1) (Nat.zero_le _)
  have hc12 := ct_mono (f := tk ts so 0) (n := n) (b := 0) (parts := 3) (i := 0) (j := 1) (Nat.zero_le _) (by omega) (by omega)
  generalize hc2e : ct (tk ts so 0) n 0 3 1 = c2 at hc2 hc12 ⊢
  rw [hc1e] at hc12
  refine xr_iast hx hb hE hS (Or.inr hBz) hB (i := 2) (by omega) (by omega) dX4_trim_28 (fun H_12 L_13 hB hz_14 ho_15 hS => ?_)
  have hM := hM.kept (fun q hq => ho_15 q (hBM q hq))
  have hR := hR.kept (ho_15 _ (hBr))
  have hB : xI E aB 3 (fun k => nI (t3 0 c1 c2 k)) H_12 := hB.to (fun j hj => by rcases (show j = 0 ∨ j = 1 ∨ j = 2 by omega) with rfl | rfl | rfl <;> rfl)
  obtain ⟨bg, hbge⟩ : ∃ f, f = t3 0 c1 c2 := ⟨_, rfl⟩
  rw [← hbge] at hB
  have hbg : ∀ k, bg k ≤ 40 := fun k => by rw [hbge]; exact t3_le (by omega) (by omega) (by omega) k
  refine lv_astore_n (lv' := [(2, .ref aB), (0, .ref mo), (1, .ref row)]) hx hb dX4_trim_29 rfl hl (by decide) rfl (fun ls hl => ?_)
  refine lv_iconst (v := (nI 3)) hx hb dX4_trim_30 (by decide) ?_
  have hzB := hB.lt
  refine xr_newi hx hb (hts _ q680) hE hS (n := 3) (by omega) (show 1 + 1 ≤ 2 by omega) (show 3 + 3 ≤ 6 by omega) dX4_trim_31 (fun aE H_16 eaE hF hz_17 ho_18 hS => ?_)
  have hM := hM.kept (fun q hq => ho_18 q (hM.lt hq))
  have hR := hR.kept (ho_18 _ (hR.lt))
  have hB := hB.kept (ho_18 _ (hB.lt))
  have hEM : ∀ q, xMf mo aS aT tr q → q ≠ aE := fun q hq => by have := hM0.lt hq; omega
  have hEr : row ≠ aE := by omega
  have hEz : sz ≤ aE := by omega
  have hBE : aB ≠ aE := by omega
  have e1 : bg 1 = c1 := by rw [hbge]; rfl
  have e2 : bg 2 = c2 := by rw [hbge]; rfl
  have eb0 : bg 0 = 0 := by rw [hbge]; rfl
  refine lv_dup hx hb dX4_trim_33 rfl ?_
  refine lv_iconst (v := (nI 0)) hx hb dX4_trim_34 (by decide) ?_
  refine lv_aload_n hx hb dX4_trim_35 rfl (lv_at hl 0 rfl) ?_
  refine lv_iconst (v := (nI 1)) hx hb dX4_trim_36 (by decide) ?_
  refine xr_iald hx hb hE hB (i := 1) (by omega) (by omega) dX4_trim_37 ?_
  refine xr_ti (x := (nI (bg 1))) (y := (nI c1)) (by rw [e1]) ?_
  refine xr_iast hx hb hE hS (Or.inr hEz) hF (i := 0) (by omega) (by omega) dX4_trim_38 (fun H_19 L_20 hF hz_21 ho_22 hS => ?_)
  have hM := hM.kept (fun q hq => ho_22 q (hEM q hq))
  have hR := hR.kept (ho_22 _ (hEr))
  have hB := hB.kept (ho_22 _ (hBE))
  refine lv_dup hx hb dX4_trim_39 rfl ?_
  refine lv_iconst (v := (nI 1)) hx hb dX4_trim_40 (by decide) ?_
  refine lv_aload_n hx hb dX4_trim_41 rfl (lv_at hl 0 rfl) ?_
  refine lv_iconst (v := (nI 2)) hx hb dX4_trim_42 (by decide) ?_
  refine xr_iald hx hb hE hB (i := 2) (by omega) (by omega) dX4_trim_43 ?_
  refine xr_ti (x := (nI (bg 2))) (y := (nI c2)) (by rw [e2]) ?_
  refine xr_iast hx hb hE hS (Or.inr hEz) hF (i := 1) (by omega) (by omega) dX4_trim_44 (fun H_23 L_24 hF hz_25 ho_26 hS => ?_)
  have hM := hM.kept (fun q hq => ho_26 q (hEM q hq))
  have hR := hR.kept (ho_26 _ (hEr))
  have hB := hB.kept (ho_26 _ (hBE))
  refine lv_dup hx hb dX4_trim_45 rfl ?_
  refine lv_iconst (v := (nI 2)) hx hb dX4_trim_46 (by decide) ?_
  refine lv_aload_n hx hb dX4_trim_47 rfl (lv_at hl 1 rfl) ?_
  refine xr_get hx hb hts in_X4 hown hE ((hM).1) rfl 1 (by decide) (hts _ q788) (fun _ h => h) rfl dX4_trim_48 ?_
  refine xr_iast hx hb hE hS (Or.inr hEz) hF (i := 2) (by omega) (by omega) dX4_trim_51 (fun H_27 L_28 hF hz_29 ho_30 hS => ?_)
  have hM := hM.kept (fun q hq => ho_30 q (hEM q hq))
  have hR := hR.kept (ho_30 _ (hEr))
  have hB := hB.kept (ho_30 _ (hBE))
  have hF : xI E aE 3 (fun k => nI (t3 c1 c2 n k)) H_27 := hF.to (fun j hj => by rcases (show j = 0 ∨ j = 1 ∨ j = 2 by omega) with rfl | rfl | rfl <;> rfl)
  obtain ⟨en, hene⟩ : ∃ f, f = t3 c1 c2 n := ⟨_, rfl⟩
  rw [← hene] at hF
  have hen : ∀ k, en k ≤ 40 := fun k => by rw [hene]; exact t3_le (by omega) (by omega) hn k
  have hbe : ∀ k, k < 3 → bg k ≤ en k := fun k hk => by rw [hbge, hene]; rcases (show k = 0 ∨ k = 1 ∨ k = 2 by omega) with rfl | rfl | rfl <;> simp [t3] <;> omega
  refine lv_astore_n (lv' := [(3, .ref aE), (2, .ref aB), (0, .ref mo), (1, .ref row)]) hx hb dX4_trim_52 rfl hl (by decide) rfl (fun ls hl => ?_)
  refine lv_aload_n hx hb dX4_trim_53 rfl (lv_at hl 2 rfl) ?_
  refine lv_iconst (v := (nI 1)) hx hb dX4_trim_54 (by decide) ?_
  refine lv_aload_n hx hb dX4_trim_55 rfl (lv_at hl 1 rfl) ?_
  refine lv_aload_n hx hb dX4_trim_56 rfl (lv_at hl 0 rfl) ?_
  refine lv_iconst (v := (-1)) hx hb dX4_trim_57 (by decide) ?_
  refine xr_ro (va_runV (As := [.int (nI 1), .ref aB, .ref aE, .int (-1)]) (rest := []) ⟨hx, hb, hml, hown, hts⟩ (mt_best l E (fun q => q = row ∨ sz ≤ q) mo aS aT aW aO tr th n so m ts sh aB aE bg en 1 (-1) (by omega) hbg hen hso hts9) (cwV 4 hts (lw_V q887 q889 qs22 q44 q890) rfl rfl rfl (by decide +kernel) ⟨Nat.le_of_ble_eq_true rfl, Nat.le_of_ble_eq_true rfl⟩) ⟨xPre_blind, ((hM).1).recv hE rfl, fun U hU hW => xPre_at hE hS (fun _ h => h) (⟨hM, hB, hF⟩) hU hW⟩ rfl rfl hl.1 rfl (lv_room (Nat.le_of_ble_eq_true rfl)) dX4_trim_58 ⟨(show 2 + 0 ≤ 2 by omega), (show 6 + 0 ≤ 6 by omega)⟩) ?_
  have hb1 := bd_3 (gR (tk ts so 1) bg en)
  refine xr_ti (x := (oi (bo (gR (tk ts so 1) bg en) (msk (-1)) 3))) (y := (nI (bd (gR (tk ts so 1) bg en) (msk (-1)) 3))) (congrArg oi hb1.1) ?_
  generalize hb1e : bd (gR (tk ts so 1) bg en) (msk (-1)) 3 = b1 at hb1 ⊢
  have hb1 := hb1.2
  refine lv_istore (lv' := [(4, .int (nI b1)), (3, .ref aE), (2, .ref aB), (0, .ref mo), (1, .ref row)]) hx hb dX4_trim_61 hl (by decide) rfl (fun ls hl => ?_)
  refine lv_iconst (v := (nI 0)) hx hb dX4_trim_63 (by decide) ?_
  refine lv_istore (lv' := [(5, .int (nI 0)), (4, .int (nI b1)), (3, .ref aE), (2, .ref aB), (0, .ref mo), (1, .ref row)]) hx hb dX4_trim_64 hl (by decide) rfl (fun ls hl => ?_)
  refine lv_iconst (v := (nI 0)) hx hb dX4_trim_66 (by decide) ?_
  refine lv_istore (lv' := [(6, .int (nI 0)), (5, .int (nI 0)), (4, .int (nI b1)), (3, .ref aE), (2, .ref aB), (0, .ref mo), (1, .ref row)]) hx hb dX4_trim_67 hl (by decide) rfl (fun ls hl => ?_)
  have lp1 : ∀ (nn : Nat) (p : Nat), (p ≤ 3) → (3 - p) < nn → ∀ (ls : Array Slot), lv_has ls 9 [(0, .ref mo), (1, .ref row), (2, .ref aB), (3, .ref aE), (4, .int (nI b1)), (5, .int (nI (sc (gR (tk ts so 1) bg en) b1 p))), (6, .int (nI p))] → W P0 l e0 (headSpec (ws_ yX4_trim cX4_trim 9 none) ({ frames := 4, cells := 2, slots := 6, locals := 160 } : Room)).room s m0 ([.ref mo, .ref row] : List Value).toArray below meth c0 H_27 L_28 2 6 (MQ below (xQv (fun q => q = row ∨ sz ≤ q) (fun H => xI E row 40 (wTrim (tk ts so) n rw) H)) ([.ref mo, .ref row] : List Value).toArray s 2 6 (fun q => q = row ∨ sz ≤ q)) (F0 m0 69 ls []) := by
    intro nn
    induction nn with
    | zero =>
      intro p hp1 hnn
      exact absurd hnn (Nat.not_lt_zero _)
    | succ nn ih =>
      intro p hp1 hnn ls hl
      refine lv_iload hx hb dX4_trim_69 (lv_at hl 6 rfl) ?_
      refine lv_iconst (v := (nI 3)) hx hb dX4_trim_71 (by decide) ?_
      refine xr_cge (tgt := 108) hx hb dX4_trim_72 (by decide) (by omega) (by omega) (fun c2 => ?_) (fun c2 => ?_)
      · obtain rfl : 3 = p := by omega
        have hs9 : sc (gR (tk ts so 1) bg en) b1 3 ≤ 360 := sc_le (fun k => rn_9 (fun k => hts9 1 (so k)) (hen k)) b1 3
        generalize hsec : sc (gR (tk ts so 1) bg en) b1 3 = sec at hs9 hl
        have hsec := hsec.symm
        have lp2 : ∀ (nn : Nat) (z : Nat), (bg b1 ≤ z) → (z ≤ en b1) → (tm (tk ts so 1) (bg b1) sec (en b1) = tm (tk ts so 1) (bg b1) sec z) → z < nn → ∀ (H : Heap) (locs : List Loc), (True ∧ xM0 E mo aS aT aW aO tr th n so m ts sh H) → (xI E row 40 rw H) → (xI E aB 3 (fun k => nI (bg k)) H) → (xI E aE 3 (fun k => nI (va_up en b1 z k)) H) → va_S (fun q => q = row ∨ sz ≤ q) s.heap H locs → ∀ (ls : Array Slot), lv_has ls 9 [(0, .ref mo), (1, .ref row), (2, .ref aB), (3, .ref aE), (4, .int (nI b1)), (5, .int (nI sec))] → W P0 l e0 (headSpec (ws_ yX4_trim cX4_trim 9 none) ({ frames := 4, cells := 2, slots := 6, locals := 160 } : Room)).room s m0 ([.ref mo, .ref row] : List Value).toArray below meth c0 H locs 2 6 (MQ below (xQv (fun q => q = row ∨ sz ≤ q) (fun H => xI E row 40 (wTrim (tk ts so) n rw) H)) ([.ref mo, .ref row] : List Value).toArray s 2 6 (fun q => q = row ∨ sz ≤ q)) (F0 m0 108 ls []) := by
          intro nn
          induction nn with
          | zero =>
            intro z h1 h2 h3 hnn
            exact absurd hnn (Nat.not_lt_zero _)
          | succ nn ih =>
            intro z h1 h2 h3 hnn H locs hM hR hB hF hS ls hl
            have hM := hM.2
            have hzz : va_up en b1 z b1 = z := va_up_self _ _ _
            refine lv_aload_n hx hb dX4_trim_108 rfl (lv_at hl 3 rfl) ?_
            refine lv_iload hx hb dX4_trim_109 (lv_at hl 4 rfl) ?_
            refine xr_iald hx hb hE hF (i := b1) (by omega) (by omega) dX4_trim_111 ?_
            refine xr_ti (x := (nI (va_up en b1 z b1))) (y := (nI z)) (by rw [hzz]) ?_
            refine lv_aload_n hx hb dX4_trim_112 rfl (lv_at hl 2 rfl) ?_
            refine lv_iload hx hb dX4_trim_113 (lv_at hl 4 rfl) ?_
            refine xr_iald hx hb hE hB (i := b1) (by omega) (by omega) dX4_trim_115 ?_
            have hben := hbg b1
            have henb := hen b1
            refine xr_cle (tgt := 150) hx hb dX4_trim_116 (by decide) (by omega) (by omega) (fun c4 => ?_) (fun c4 => ?_)
            · have hz3 : z = tm (tk ts so 1) (bg b1) sec (en b1) := by rw [h3]; exact (tm_stop (by omega)).symm
              have hen2 : ∀ k, (va_up en b1 z) k ≤ 40 := fun k => by
                by_cases q : k = b1
                · rw [q, va_up_self]; omega
                · rw [va_up_ne _ _ q]; exact hen k
              have hbe2 : ∀ k, k < 3 → bg k ≤ (va_up en b1 z) k := fun k hk => by
                by_cases q : k = b1
                · rw [q, va_up_self]; omega
                · rw [va_up_ne _ _ q]; exact hbe k hk
              obtain ⟨en2, hen2e⟩ : ∃ f, f = (va_up en b1 z) := ⟨_, rfl⟩
              rw [← hen2e] at hF hen2 hbe2
              refine lv_aload_n hx hb dX4_trim_150 rfl (lv_at hl 0 rfl) ?_
              refine lv_iconst (v := (nI 2)) hx hb dX4_trim_151 (by decide) ?_
              refine lv_aload_n hx hb dX4_trim_152 rfl (lv_at hl 2 rfl) ?_
              refine lv_aload_n hx hb dX4_trim_153 rfl (lv_at hl 3 rfl) ?_
              refine lv_iconst (v := (-1)) hx hb dX4_trim_154 (by decide) ?_
              refine xr_ro (va_runV (As := [.int (nI 2), .ref aB, .ref aE, .int (-1)]) (rest := []) ⟨hx, hb, hml, hown, hts⟩ (mt_best l E (fun q => q = row ∨ sz ≤ q) mo aS aT aW aO tr th n so m ts sh aB aE bg en2 2 (-1) (by omega) hbg hen2 hso hts9) (cwV 4 hts (lw_V q887 q889 qs22 q44 q890) rfl rfl rfl (by decide +kernel) ⟨Nat.le_of_ble_eq_true rfl, Nat.le_of_ble_eq_true rfl⟩) ⟨xPre_blind, ((hM).1).recv hE rfl, fun U hU hW => xPre_at hE hS (fun _ h => h) (⟨hM, hB, hF⟩) hU hW⟩ rfl rfl hl.1 rfl (lv_room (Nat.le_of_ble_eq_true rfl)) dX4_trim_155 ⟨(show 2 + 0 ≤ 2 by omega), (show 6 + 0 ≤ 6 by omega)⟩) ?_
              have hfi := bd_3 (gR (tk ts so 2) bg en2)
              refine xr_ti (x := (oi (bo (gR (tk ts so 2) bg en2) (msk (-1)) 3))) (y := (nI (bd (gR (tk ts so 2) bg en2) (msk (-1)) 3))) (congrArg oi hfi.1) ?_
              generalize hfie : bd (gR (tk ts so 2) bg en2) (msk (-1)) 3 = fi at hfi ⊢
              have hfi := hfi.2
              refine lv_istore (lv' := [(6, .int (nI fi)), (0, .ref mo), (1, .ref row), (2, .ref aB), (3, .ref aE), (4, .int (nI b1)), (5, .int (nI sec))]) hx hb dX4_trim_158 hl (by decide) rfl (fun ls hl => ?_)
              refine lv_iload hx hb dX4_trim_160 (lv_at hl 0 rfl) ?_
              refine lv_iload hx hb dX4_trim_162 (lv_at hl 5 rfl) ?_
              have hfin : ∀ mi, mi = (if fi = b1 then bd (gR (tk ts so 1) bg en2) (msk (nI fi)) 3 else b1) → wTrim (tk ts so) n rw = wT3 bg en2 fi mi rw := by
                intro mi hmi
                unfold wTrim wT1 wT2
                rw [hc1e, hc2e, ← hbge, ← hene, hb1e, ← hsec, ← hz3, ← hen2e, hfie, ← hmi]
              have tail : ∀ mi : Nat, mi < 3 → mi ≠ fi → mi = (if fi = b1 then bd (gR (tk ts so 1) bg en2) (msk (nI fi)) 3 else b1) → W P0 l e0 (headSpec (ws_ yX4_trim cX4_trim 9 none) ({ frames := 4, cells := 2, slots := 6, locals := 160 } : Room)).room s m0 ([.ref mo, .ref row] : List Value).toArray below meth c0 H locs 2 6 (MQ below (xQv (fun q => q = row ∨ sz ≤ q) (fun H => xI E row 40 (wTrim (tk ts so) n rw) H)) ([.ref mo, .ref row] : List Value).toArray s 2 6 (fun q => q = row ∨ sz ≤ q)) (F0 m0 181 ls [.int (nI mi)]) := by
                intro mi hm3 hmf hmie
                refine lv_istore (lv' := [(7, .int (nI mi)), (6, .int (nI fi)), (0, .ref mo), (1, .ref row), (2, .ref aB), (3, .ref aE), (4, .int (nI b1)), (5, .int (nI sec))]) hx hb dX4_trim_181 hl (by decide) rfl (fun ls hl => ?_)
                refine lv_aload_n hx hb dX4_trim_183 rfl (lv_at hl 3 rfl) ?_
                refine lv_aload_n hx hb dX4_trim_184 rfl (lv_at hl 4 rfl) ?_
                refine lv_iload hx hb dX4_trim_185 (lv_at hl 1 rfl) ?_
                refine xr_iald hx hb hE hB (i := fi) (by omega) (by omega) dX4_trim_187 ?_
                refine lv_aload_n hx hb dX4_trim_188 rfl (lv_at hl 5 rfl) ?_
                refine lv_iload hx hb dX4_trim_189 (lv_at hl 1 rfl) ?_
                refine xr_iald hx hb hE hF (i := fi) (by omega) (by omega) dX4_trim_191 ?_
                refine lv_iconst (v := (nI 2)) hx hb dX4_trim_192 (by decide) ?_
                refine xr_muv (va_runS (As := [.ref row, .int (nI (bg fi)), .int (nI (en2 fi)), .int (nI 2)]) (rest := []) ⟨hx, hb, hml, hown, hts⟩ (mt_take l E row rw (bg fi) (en2 fi) (nI 2) (hbe2 _ (by omega)) (hen2 _)) (va_cwS 4 hts (lw_S q880 q881 q44 q882) rfl rfl rfl (by decide +kernel) ⟨Nat.le_of_ble_eq_true rfl, Nat.le_of_ble_eq_true rfl⟩) ⟨xPre_blind, fun U hU hW => xPre_at hE hS (fun q h => Or.inl h) hR hU hW⟩ rfl rfl hl.1 rfl (lv_room (Nat.le_of_ble_eq_true rfl)) dX4_trim_193 ⟨(show 2 + 0 ≤ 2 by omega), (show 6 + 0 ≤ 6 by omega)⟩) hS (fun q h => Or.inl h) (fun q h => Or.inl h) (fun H_31 L_32 hP_ hz_33 hk_34 hS => ?_)
                have hR := hP_
                have hM := hM.kept (fun q hq => hk_34 q (hM.lt hq) (hd q hq))
                have hB := hB.kept (hk_34 aB hB.lt (fun q => hBr q.symm))
                have hF := hF.kept (hk_34 aE hF.lt (fun q => hEr q.symm))
                refine lv_aload_n hx hb dX4_trim_196 rfl (lv_at hl 3 rfl) ?_
                refine lv_aload_n hx hb dX4_trim_197 rfl (lv_at hl 4 rfl) ?_
                refine lv_iload hx hb dX4_trim_198 (lv_at hl 0 rfl) ?_
                refine xr_iald hx hb hE hB (i := mi) (by omega) (by omega) dX4_trim_200 ?_
                refine lv_aload_n hx hb dX4_trim_201 rfl (lv_at hl 5 rfl) ?_
                refine lv_iload hx hb dX4_trim_202 (lv_at hl 0 rfl) ?_
                refine xr_iald hx hb hE hF (i := mi) (by omega) (by omega) dX4_trim_204 ?_
                refine lv_iconst (v := (nI 1)) hx hb dX4_trim_205 (by decide) ?_
                refine xr_muv (va_runS (As := [.ref row, .int (nI (bg mi)), .int (nI (en2 mi)), .int (nI 1)]) (rest := []) ⟨hx, hb, hml, hown, hts⟩ (mt_take l E row (tkf rw (bg fi) (en2 fi) (nI 2)) (bg mi) (en2 mi) (nI 1) (hbe2 _ (by omega)) (hen2 _)) (va_cwS 4 hts (lw_S q880 q881 q44 q882) rfl rfl rfl (by decide +kernel) ⟨Nat.le_of_ble_eq_true rfl, Nat.le_of_ble_eq_true rfl⟩) ⟨xPre_blind, fun U hU hW => xPre_at hE hS (fun q h => Or.inl h) hR hU hW⟩ rfl rfl hl.1 rfl (lv_room (Nat.le_of_ble_eq_true rfl)) dX4_trim_206 ⟨(show 2 + 0 ≤ 2 by omega), (show 6 + 0 ≤ 6 by omega)⟩) hS (fun q h => Or.inl h) (fun q h => Or.inl h) (fun H_35 L_36 hP_ hz_37 hk_38 hS => ?_)
                have hR := hP_
                have hM := hM.kept (fun q hq => hk_38 q (hM.lt hq) (hd q hq))
                have hB := hB.kept (hk_38 aB hB.lt (fun q => hBr q.symm))
                have hF := hF.kept (hk_38 aE hF.lt (fun q => hEr q.symm))
                refine lv_iconst (v := (nI 3)) hx hb dX4_trim_209 (by decide) ?_
                refine lv_iload hx hb dX4_trim_210 (lv_at hl 1 rfl) ?_
                refine xr_isub hx hb (by omega) dX4_trim_212 ?_
                refine lv_iload hx hb dX4_trim_213 (lv_at hl 0 rfl) ?_
                refine xr_isub hx hb (by omega) dX4_trim_215 ?_
                refine lv_istore (lv' := [(8, .int (nI ((3 - fi) - mi))), (7, .int (nI mi)), (6, .int (nI fi)), (0, .ref mo), (1, .ref row), (2, .ref aB), (3, .ref aE), (4, .int (nI b1)), (5, .int (nI sec))]) hx hb dX4_trim_216 hl (by decide) rfl (fun ls hl => ?_)
                refine lv_aload_n hx hb dX4_trim_218 rfl (lv_at hl 4 rfl) ?_
                refine lv_aload_n hx hb dX4_trim_219 rfl (lv_at hl 5 rfl) ?_
                refine lv_iload hx hb dX4_trim_220 (lv_at hl 0 rfl) ?_
                refine xr_iald hx hb hE hB (i := ((3 - fi) - mi)) (by omega) (by omega) dX4_trim_222 ?_
                refine lv_aload_n hx hb dX4_trim_223 rfl (lv_at hl 6 rfl) ?_
                refine lv_iload hx hb dX4_trim_224 (lv_at hl 0 rfl) ?_
                refine xr_iald hx hb hE hF (i := ((3 - fi) - mi)) (by omega) (by omega) dX4_trim_226 ?_
                refine lv_iconst (v := (nI 0)) hx hb dX4_trim_227 (by decide) ?_
                refine xr_muv (va_runS (As := [.ref row, .int (nI (bg ((3 - fi) - mi))), .int (nI (en2 ((3 - fi) - mi))), .int (nI 0)]) (rest := []) ⟨hx, hb, hml, hown, hts⟩ (mt_take l E row (tkf (tkf rw (bg fi) (en2 fi) (nI 2)) (bg mi) (en2 mi) (nI 1)) (bg (3 - fi - mi)) (en2 (3 - fi - mi)) (nI 0) (hbe2 _ (by omega)) (hen2 _)) (va_cwS 4 hts (lw_S q880 q881 q44 q882) rfl rfl rfl (by decide +kernel) ⟨Nat.le_of_ble_eq_true rfl, Nat.le_of_ble_eq_true rfl⟩) ⟨xPre_blind, fun U hU hW => xPre_at hE hS (fun q h => Or.inl h) hR hU hW⟩ rfl rfl hl.1 rfl (lv_room (Nat.le_of_ble_eq_true rfl)) dX4_trim_228 ⟨(show 2 + 0 ≤ 2 by omega), (show 6 + 0 ≤ 6 by omega)⟩) hS (fun q h => Or.inl h) (fun q h => Or.inl h) (fun H_39 L_40 hP_ hz_41 hk_42 hS => ?_)
                have hR := hP_
                have hM := hM.kept (fun q hq => hk_42 q (hM.lt hq) (hd q hq))
                have hB := hB.kept (hk_42 aB hB.lt (fun q => hBr q.symm))
                have hF := hF.kept (hk_42 aE hF.lt (fun q => hEr q.symm))
                exact W.vret hx hb hr (fun t ht hW => ⟨⟨rfl, by rw [ht]; exact (by rw [hfin mi hmie]; exact hR)⟩, hS.F ht⟩) hS.2.2 dX4_trim_231
              refine xr_cne (tgt := 179) hx hb dX4_trim_164 (by decide) (by omega) (by omega) (fun c6 => ?_) (fun c6 => ?_)
              · refine lv_iload hx hb dX4_trim_179 (lv_at hl 5 rfl) ?_
                exact tail b1 hb1 (fun q => c6 q.symm) (by rw [if_neg c6])
              · refine lv_aload_n hx hb dX4_trim_167 rfl (lv_at hl 1 rfl) ?_
                refine lv_iconst (v := (nI 1)) hx hb dX4_trim_168 (by decide) ?_
                refine lv_aload_n hx hb dX4_trim_169 rfl (lv_at hl 3 rfl) ?_
                refine lv_aload_n hx hb dX4_trim_170 rfl (lv_at hl 4 rfl) ?_
                refine lv_iload hx hb dX4_trim_171 (lv_at hl 0 rfl) ?_
                refine xr_ro (va_runV (As := [.int (nI 1), .ref aB, .ref aE, .int (nI fi)]) (rest := []) ⟨hx, hb, hml, hown, hts⟩ (mt_best l E (fun q => q = row ∨ sz ≤ q) mo aS aT aW aO tr th n so m ts sh aB aE bg en2 1 (nI fi) (by omega) hbg hen2 hso hts9) (cwV 4 hts (lw_V q887 q889 qs22 q44 q890) rfl rfl rfl (by decide +kernel) ⟨Nat.le_of_ble_eq_true rfl, Nat.le_of_ble_eq_true rfl⟩) ⟨xPre_blind, ((hM).1).recv hE rfl, fun U hU hW => xPre_at hE hS (fun _ h => h) (⟨hM, hB, hF⟩) hU hW⟩ rfl rfl hl.1 rfl (lv_room (Nat.le_of_ble_eq_true rfl)) dX4_trim_173 ⟨(show 2 + 0 ≤ 2 by omega), (show 6 + 0 ≤ 6 by omega)⟩) ?_
                have hmi := bd_2 (gR (tk ts so 1) bg en2) hfi
                refine xr_ti (x := (oi (bo (gR (tk ts so 1) bg en2) (msk (nI fi)) 3))) (y := (nI (bd (gR (tk ts so 1) bg en2) (msk (nI fi)) 3))) (congrArg oi hmi.1) ?_
                refine lv_goto (tgt := 181) hx hb dX4_trim_176 (by decide) ?_
                exact tail _ hmi.2.1 hmi.2.2 (by rw [if_pos c6])
            · refine lv_aload_n hx hb dX4_trim_119 rfl (lv_at hl 0 rfl) ?_
              refine lv_iconst (v := (nI 1)) hx hb dX4_trim_120 (by decide) ?_
              refine lv_aload_n hx hb dX4_trim_121 rfl (lv_at hl 2 rfl) ?_
              refine lv_iload hx hb dX4_trim_122 (lv_at hl 4 rfl) ?_
              refine xr_iald hx hb hE hB (i := b1) (by omega) (by omega) dX4_trim_124 ?_
              refine lv_aload_n hx hb dX4_trim_125 rfl (lv_at hl 3 rfl) ?_
              refine lv_iload hx hb dX4_trim_126 (lv_at hl 4 rfl) ?_
              refine xr_iald hx hb hE hF (i := b1) (by omega) (by omega) dX4_trim_128 ?_
              refine xr_ti (x := (nI (va_up en b1 z b1))) (y := (nI z)) (by rw [hzz]) ?_
              refine lv_iconst (v := (nI 1)) hx hb dX4_trim_129 (by decide) ?_
              refine xr_isub hx hb (by omega) dX4_trim_130 ?_
              refine xr_ro (va_runV (As := [.int (nI 1), .int (nI (bg b1)), .int (nI (z - 1))]) (rest := []) ⟨hx, hb, hml, hown, hts⟩ (mt_run l E (fun q => q = row ∨ sz ≤ q) mo aS aT aW aO tr th n so m ts sh 1 (bg b1) (z - 1) (by omega) (by omega) (by omega) hso) (cwV 3 hts (lw_V q872 q874 qs19 q44 q875) rfl rfl rfl (by decide +kernel) ⟨Nat.le_of_ble_eq_true rfl, Nat.le_of_ble_eq_true rfl⟩) ⟨xPre_blind, ((hM).1).recv hE rfl, fun U hU hW => xPre_at hE hS (fun _ h => h) hM hU hW⟩ rfl rfl hl.1 rfl (lv_room (Nat.le_of_ble_eq_true rfl)) dX4_trim_131 ⟨(show 2 + 0 ≤ 2 by omega), (show 6 + 0 ≤ 6 by omega)⟩) ?_
              have q1 := rn_9 (f := tk ts so 1) (fun k => hts9 1 (so k)) (a := bg b1) (b := z - 1) (by omega)
              refine lv_iload hx hb dX4_trim_134 (lv_at hl 5 rfl) ?_
              refine xr_clt (tgt := 150) hx hb dX4_trim_136 (by decide) (by omega) (by omega) (fun c5 => ?_) (fun c5 => ?_)
              · have hz3 : z = tm (tk ts so 1) (bg b1) sec (en b1) := by rw [h3]; exact (tm_stop (by omega)).symm
                have hen2 : ∀ k, (va_up en b1 z) k ≤ 40 := fun k => by
                  by_cases q : k = b1
                  · rw [q, va_up_self]; omega
                  · rw [va_up_ne _ _ q]; exact hen k
                have hbe2 : ∀ k, k < 3 → bg k ≤ (va_up en b1 z) k := fun k hk => by
                  by_cases q : k = b1
                  · rw [q, va_up_self]; omega
                  · rw [va_up_ne _ _ q]; exact hbe k hk
                obtain ⟨en2, hen2e⟩ : ∃ f, f = (va_up en b1 z) := ⟨_, rfl⟩
                rw [← hen2e] at hF hen2 hbe2
                refine lv_aload_n hx hb dX4_trim_150 rfl (lv_at hl 0 rfl) ?_
                refine lv_iconst (v := (nI 2)) hx hb dX4_trim_151 (by decide) ?_
                refine lv_aload_n hx hb dX4_trim_152 rfl (lv_at hl 2 rfl) ?_
                refine lv_aload_n hx hb dX4_trim_153 rfl (lv_at hl 3 rfl) ?_
                refine lv_iconst (v := (-1)) hx hb dX4_trim_154 (by decide) ?_
                refine xr_ro (va_runV (As := [.int (nI 2), .ref aB, .ref aE, .int (-1)]) (rest := []) ⟨hx, hb, hml, hown, hts⟩ (mt_best l E (fun q => q = row ∨ sz ≤ q) mo aS aT aW aO tr th n so m ts sh aB aE bg en2 2 (-1) (by omega) hbg hen2 hso hts9) (cwV 4 hts (lw_V q887 q889 qs22 q44 q890) rfl rfl rfl (by decide +kernel) ⟨Nat.le_of_ble_eq_true rfl, Nat.le_of_ble_eq_true rfl⟩) ⟨xPre_blind, ((hM).1).recv hE rfl, fun U hU hW => xPre_at hE hS (fun _ h => h) (⟨hM, hB, hF⟩) hU hW⟩ rfl rfl hl.1 rfl (lv_room (Nat.le_of_ble_eq_true rfl)) dX4_trim_155 ⟨(show 2 + 0 ≤ 2 by omega), (show 6 + 0 ≤ 6 by omega)⟩) ?_
                have hfi := bd_3 (gR (tk ts so 2) bg en2)
                refine xr_ti (x := (oi (bo (gR (tk ts so 2) bg en2) (msk (-1)) 3))) (y := (nI (bd (gR (tk ts so 2) bg en2) (msk (-1)) 3))) (congrArg oi hfi.1) ?_
                generalize hfie : bd (gR (tk ts so 2) bg en2) (msk (-1)) 3 = fi at hfi ⊢
                have hfi := hfi.2
                refine lv_istore (lv' := [(6, .int (nI fi)), (0, .ref mo), (1, .ref row), (2, .ref aB), (3, .ref aE), (4, .int (nI b1)), (5, .int (nI sec))]) hx hb dX4_trim_158 hl (by decide) rfl (fun ls hl => ?_)
                refine lv_iload hx hb dX4_trim_160 (lv_at hl 0 rfl) ?_
                refine lv_iload hx hb dX4_trim_162 (lv_at hl 5 rfl) ?_
                have hfin : ∀ mi, mi = (if fi = b1 then bd (gR (tk ts so 1) bg en2) (msk (nI fi)) 3 else b1) → wTrim (tk ts so) n rw = wT3 bg en2 fi mi rw := by
                  intro mi hmi
                  unfold wTrim wT1 wT2
                  rw [hc1e, hc2e, ← hbge, ← hene, hb1e, ← hsec, ← hz3, ← hen2e, hfie, ← hmi]
                have tail : ∀ mi : Nat, mi < 3 → mi ≠ fi → mi = (if fi = b1 then bd (gR (tk ts so 1) bg en2) (msk (nI fi)) 3 else b1) → W P0 l e0 (headSpec (ws_ yX4_trim cX4_trim 9 none) ({ frames := 4, cells := 2, slots := 6, locals := 160 } : Room)).room s m0 ([.ref mo, .ref row] : List Value).toArray below meth c0 H locs 2 6 (MQ below (xQv (fun q => q = row ∨ sz ≤ q) (fun H => xI E row 40 (wTrim (tk ts so) n rw) H)) ([.ref mo, .ref row] : List Value).toArray s 2 6 (fun q => q = row ∨ sz ≤ q)) (F0 m0 181 ls [.int (nI mi)]) := by
                  intro mi hm3 hmf hmie
                  refine lv_istore (lv' := [(7, .int (nI mi)), (6, .int (nI fi)), (0, .ref mo), (1, .ref row), (2, .ref aB), (3, .ref aE), (4, .int (nI b1)), (5, .int (nI sec))]) hx hb dX4_trim_181 hl (by decide) rfl (fun ls hl => ?_)
                  refine lv_aload_n hx hb dX4_trim_183 rfl (lv_at hl 3 rfl) ?_
                  refine lv_aload_n hx hb dX4_trim_184 rfl (lv_at hl 4 rfl) ?_
                  refine lv_iload hx hb dX4_trim_185 (lv_at hl 1 rfl) ?_
                  refine xr_iald hx hb hE hB (i := fi) (by omega) (by omega) dX4_trim_187 ?_
                  refine lv_aload_n hx hb dX4_trim_188 rfl (lv_at hl 5 rfl) ?_
                  refine lv_iload hx hb dX4_trim_189 (lv_at hl 1 rfl) ?_
                  refine xr_iald hx hb hE hF (i := fi) (by omega) (by omega) dX4_trim_191 ?_
                  refine lv_iconst (v := (nI 2)) hx hb dX4_trim_192 (by decide) ?_
                  refine xr_muv (va_runS (As := [.ref row, .int (nI (bg fi)), .int (nI (en2 fi)), .int (nI 2)]) (rest := []) ⟨hx, hb, hml, hown, hts⟩ (mt_take l E row rw (bg fi) (en2 fi) (nI 2) (hbe2 _ (by omega)) (hen2 _)) (va_cwS 4 hts (lw_S q880 q881 q44 q882) rfl rfl rfl (by decide +kernel) ⟨Nat.le_of_ble_eq_true rfl, Nat.le_of_ble_eq_true rfl⟩) ⟨xPre_blind, fun U hU hW => xPre_at hE hS (fun q h => Or.inl h) hR hU hW⟩ rfl rfl hl.1 rfl (lv_room (Nat.le_of_ble_eq_true rfl)) dX4_trim_193 ⟨(show 2 + 0 ≤ 2 by omega), (show 6 + 0 ≤ 6 by omega)⟩) hS (fun q h => Or.inl h) (fun q h => Or.inl h) (fun H_43 L_44 hP_ hz_45 hk_46 hS => ?_)
                  have hR := hP_
                  have hM := hM.kept (fun q hq => hk_46 q (hM.lt hq) (hd q hq))
                  have hB := hB.kept (hk_46 aB hB.lt (fun q => hBr q.symm))
                  have hF := hF.kept (hk_46 aE hF.lt (fun q => hEr q.symm))
                  refine lv_aload_n hx hb dX4_trim_196 rfl (lv_at hl 3 rfl) ?_
                  refine lv_aload_n hx hb dX4_trim_197 rfl (lv_at hl 4 rfl) ?_
                  refine lv_iload hx hb dX4_trim_198 (lv_at hl 0 rfl) ?_
                  refine xr_iald hx hb hE hB (i := mi) (by omega) (by omega) dX4_trim_200 ?_
                  refine lv_aload_n hx hb dX4_trim_201 rfl (lv_at hl 5 rfl) ?_
                  refine lv_iload hx hb dX4_trim_202 (lv_at hl 0 rfl) ?_
                  refine xr_iald hx hb hE hF (i := mi) (by omega) (by omega) dX4_trim_204 ?_
                  refine lv_iconst (v := (nI 1)) hx hb dX4_trim_205 (by decide) ?_
                  refine xr_muv (va_runS (As := [.ref row, .int (nI (bg mi)), .int (nI (en2 mi)), .int (nI 1)]) (rest := []) ⟨hx, hb, hml, hown, hts⟩ (mt_take l E row (tkf rw (bg fi) (en2 fi) (nI 2)) (bg mi) (en2 mi) (nI 1) (hbe2 _ (by omega)) (hen2 _)) (va_cwS 4 hts (lw_S q880 q881 q44 q882) rfl rfl rfl (by decide +kernel) ⟨Nat.le_of_ble_eq_true rfl, Nat.le_of_ble_eq_true rfl⟩) ⟨xPre_blind, fun U hU hW => xPre_at hE hS (fun q h => Or.inl h) hR hU hW⟩ rfl rfl hl.1 rfl (lv_room (Nat.le_of_ble_eq_true rfl)) dX4_trim_206 ⟨(show 2 + 0 ≤ 2 by omega), (show 6 + 0 ≤ 6 by omega)⟩) hS (fun q h => Or.inl h) (fun q h => Or.inl h) (fun H_47 L_48 hP_ hz_49 hk_50 hS => ?_)
                  have hR := hP_
                  have hM := hM.kept (fun q hq => hk_50 q (hM.lt hq) (hd q hq))
                  have hB := hB.kept (hk_50 aB hB.lt (fun q => hBr q.symm))
                  have hF := hF.kept (hk_50 aE hF.lt (fun q => hEr q.symm))
                  refine lv_iconst (v := (nI 3)) hx hb dX4_trim_209 (by decide) ?_
                  refine lv_iload hx hb dX4_trim_210 (lv_at hl 1 rfl) ?_
                  refine xr_isub hx hb (by omega) dX4_trim_212 ?_
                  refine lv_iload hx hb dX4_trim_213 (lv_at hl 0 rfl) ?_
                  refine xr_isub hx hb (by omega) dX4_trim_215 ?_
                  refine lv_istore (lv' := [(8, .int (nI ((3 - fi) - mi))), (7, .int (nI mi)), (6, .int (nI fi)), (0, .ref mo), (1, .ref row), (2, .ref aB), (3, .ref aE), (4, .int (nI b1)), (5, .int (nI sec))]) hx hb dX4_trim_216 hl (by decide) rfl (fun ls hl => ?_)
                  refine lv_aload_n hx hb dX4_trim_218 rfl (lv_at hl 4 rfl) ?_
                  refine lv_aload_n hx hb dX4_trim_219 rfl (lv_at hl 5 rfl) ?_
                  refine lv_iload hx hb dX4_trim_220 (lv_at hl 0 rfl) ?_
                  refine xr_iald hx hb hE hB (i := ((3 - fi) - mi)) (by omega) (by omega) dX4_trim_222 ?_
                  refine lv_aload_n hx hb dX4_trim_223 rfl (lv_at hl 6 rfl) ?_
                  refine lv_iload hx hb dX4_trim_224 (lv_at hl 0 rfl) ?_
                  refine xr_iald hx hb hE hF (i := ((3 - fi) - mi)) (by omega) (by omega) dX4_trim_226 ?_
                  refine lv_iconst (v := (nI 0)) hx hb dX4_trim_227 (by decide) ?_
                  refine xr_muv (va_runS (As := [.ref row, .int (nI (bg ((3 - fi) - mi))), .int (nI (en2 ((3 - fi) - mi))), .int (nI 0)]) (rest := []) ⟨hx, hb, hml, hown, hts⟩ (mt_take l E row (tkf (tkf rw (bg fi) (en2 fi) (nI 2)) (bg mi) (en2 mi) (nI 1)) (bg (3 - fi - mi)) (en2 (3 - fi - mi)) (nI 0) (hbe2 _ (by omega)) (hen2 _)) (va_cwS 4 hts (lw_S q880 q881 q44 q882) rfl rfl rfl (by decide +kernel) ⟨Nat.le_of_ble_eq_true rfl, Nat.le_of_ble_eq_true rfl⟩) ⟨xPre_blind, fun U hU hW => xPre_at hE hS (fun q h => Or.inl h) hR hU hW⟩ rfl rfl hl.1 rfl (lv_room (Nat.le_of_ble_eq_true rfl)) dX4_trim_228 ⟨(show 2 + 0 ≤ 2 by omega), (show 6 + 0 ≤ 6 by omega)⟩) hS (fun q h => Or.inl h) (fun q h => Or.inl h) (fun H_51 L_52 hP_ hz_53 hk_54 hS => ?_)
                  have hR := hP_
                  have hM := hM.kept (fun q hq => hk_54 q (hM.lt hq) (hd q hq))
                  have hB := hB.kept (hk_54 aB hB.lt (fun q => hBr q.symm))
                  have hF := hF.kept (hk_54 aE hF.lt (fun q => hEr q.symm))
                  exact W.vret hx hb hr (fun t ht hW => ⟨⟨rfl, by rw [ht]; exact (by rw [hfin mi hmie]; exact hR)⟩, hS.F ht⟩) hS.2.2 dX4_trim_231
                refine xr_cne (tgt := 179) hx hb dX4_trim_164 (by decide) (by omega) (by omega) (fun c6 => ?_) (fun c6 => ?_)
                · refine lv_iload hx hb dX4_trim_179 (lv_at hl 5 rfl) ?_
                  exact tail b1 hb1 (fun q => c6 q.symm) (by rw [if_neg c6])
                · refine lv_aload_n hx hb dX4_trim_167 rfl (lv_at hl 1 rfl) ?_
                  refine lv_iconst (v := (nI 1)) hx hb dX4_trim_168 (by decide) ?_
                  refine lv_aload_n hx hb dX4_trim_169 rfl (lv_at hl 3 rfl) ?_
                  refine lv_aload_n hx hb dX4_trim_170 rfl (lv_at hl 4 rfl) ?_
                  refine lv_iload hx hb dX4_trim_171 (lv_at hl 0 rfl) ?_
                  refine xr_ro (va_runV (As := [.int (nI 1), .ref aB, .ref aE, .int (nI fi)]) (rest := []) ⟨hx, hb, hml, hown, hts⟩ (mt_best l E (fun q => q = row ∨ sz ≤ q) mo aS aT aW aO tr th n so m ts sh aB aE bg en2 1 (nI fi) (by omega) hbg hen2 hso hts9) (cwV 4 hts (lw_V q887 q889 qs22 q44 q890) rfl rfl rfl (by decide +kernel) ⟨Nat.le_of_ble_eq_true rfl, Nat.le_of_ble_eq_true rfl⟩) ⟨xPre_blind, ((hM).1).recv hE rfl, fun U hU hW => xPre_at hE hS (fun _ h => h) (⟨hM, hB, hF⟩) hU hW⟩ rfl rfl hl.1 rfl (lv_room (Nat.le_of_ble_eq_true rfl)) dX4_trim_173 ⟨(show 2 + 0 ≤ 2 by omega), (show 6 + 0 ≤ 6 by omega)⟩) ?_
                  have hmi := bd_2 (gR (tk ts so 1) bg en2) hfi
                  refine xr_ti (x := (oi (bo (gR (tk ts so 1) bg en2) (msk (nI fi)) 3))) (y := (nI (bd (gR (tk ts so 1) bg en2) (msk (nI fi)) 3))) (congrArg oi hmi.1) ?_
                  refine lv_goto (tgt := 181) hx hb dX4_trim_176 (by decide) ?_
                  exact tail _ hmi.2.1 hmi.2.2 (by rw [if_pos c6])
              · refine lv_aload_n hx hb dX4_trim_139 rfl (lv_at hl 3 rfl) ?_
                refine lv_iload hx hb dX4_trim_140 (lv_at hl 4 rfl) ?_
                refine lv_dup2_11 hx hb dX4_trim_142 rfl rfl ?_
                refine xr_iald hx hb hE hF (i := b1) (by omega) (by omega) dX4_trim_143 ?_
                refine xr_ti (x := (nI (va_up en b1 z b1))) (y := (nI z)) (by rw [hzz]) ?_
                refine lv_iconst (v := (nI 1)) hx hb dX4_trim_144 (by decide) ?_
                refine xr_isub hx hb (by omega) dX4_trim_145 ?_
                refine xr_iast hx hb hE hS (Or.inr hEz) hF (i := b1) (by omega) (by omega) dX4_trim_146 (fun H_55 L_56 hF hz_57 ho_58 hS => ?_)
                have hF : xI E aE 3 (fun k => nI (va_up en b1 (z - 1) k)) H_55 := by rw [← (upd_up en b1 z (z - 1))]; exact hF
                have hM := hM.kept (fun q hq => ho_58 q (hEM q hq))
                have hR := hR.kept (ho_58 _ (hEr))
                have hB := hB.kept (ho_58 _ (hBE))
                refine lv_goto (tgt := 108) hx hb dX4_trim_147 (by decide) ?_
                exact ih (z - 1) (by omega) (by omega) (by rw [h3]; exact tm_step ⟨by omega, by omega⟩) (by omega) _ _ (⟨trivial, hM⟩) hR hB hF hS ls (lv_sub hl [0, 1, 2, 3, 4, 5] rfl)
        exact lp2 (en b1 + 1) (en b1) (hbe b1 hb1) (Nat.le_refl _) rfl (by omega) _ _ (⟨trivial, hM⟩) hR hB (hF.to (fun j _ => by by_cases q : j = b1 <;> simp [va_up, q])) hS ls (lv_sub hl [0, 1, 2, 3, 4, 5] rfl)
      · refine lv_iload hx hb dX4_trim_75 (lv_at hl 6 rfl) ?_
        refine lv_iload hx hb dX4_trim_77 (lv_at hl 4 rfl) ?_
        refine xr_ceq (tgt := 102) hx hb dX4_trim_79 (by decide) (by omega) (by omega) (fun c3 => ?_) (fun c3 => ?_)
        · refine lv_iinc (v := (nI (p + 1))) (lv' := [(6, .int (nI (p + 1))), (0, .ref mo), (1, .ref row), (2, .ref aB), (3, .ref aE), (4, .int (nI b1)), (5, .int (nI (sc (gR (tk ts so 1) bg en) b1 p)))]) hx hb dX4_trim_102 hl (k := 6) rfl (nI_add p 1) (by decide) rfl (fun ls hl => ?_)
          refine lv_goto (tgt := 69) hx hb dX4_trim_105 (by decide) ?_
          exact ih (p + 1) (by omega) (by omega) ls (by rw [sc, if_pos c3]; exact lv_sub hl [1, 2, 3, 4, 5, 6, 0] rfl)
        · refine lv_iload hx hb dX4_trim_82 (lv_at hl 5 rfl) ?_
          refine lv_aload_n hx hb dX4_trim_84 rfl (lv_at hl 0 rfl) ?_
          refine lv_iconst (v := (nI 1)) hx hb dX4_trim_85 (by decide) ?_
          refine lv_aload_n hx hb dX4_trim_86 rfl (lv_at hl 2 rfl) ?_
          refine lv_iload hx hb dX4_trim_87 (lv_at hl 6 rfl) ?_
          refine xr_iald hx hb hE hB (i := p) (by omega) (by omega) dX4_trim_89 ?_
          refine lv_aload_n hx hb dX4_trim_90 rfl (lv_at hl 3 rfl) ?_
          refine lv_iload hx hb dX4_trim_91 (lv_at hl 6 rfl) ?_
          refine xr_iald hx hb hE hF (i := p) (by omega) (by omega) dX4_trim_93 ?_
          refine xr_ro (va_runV (As := [.int (nI 1), .int (nI (bg p)), .int (nI (en p))]) (rest := [.int (nI (sc (gR (tk ts so 1) bg en) b1 p))]) ⟨hx, hb, hml, hown, hts⟩ (mt_run l E (fun q => q = row ∨ sz ≤ q) mo aS aT aW aO tr th n so m ts sh 1 (bg p) (en p) (by omega) (hen p) (hbg p) hso) (cwV 3 hts (lw_V q872 q874 qs19 q44 q875) rfl rfl rfl (by decide +kernel) ⟨Nat.le_of_ble_eq_true rfl, Nat.le_of_ble_eq_true rfl⟩) ⟨xPre_blind, ((hM).1).recv hE rfl, fun U hU hW => xPre_at hE hS (fun _ h => h) hM hU hW⟩ rfl rfl hl.1 rfl (lv_room (Nat.le_of_ble_eq_true rfl)) dX4_trim_94 ⟨(show 2 + 0 ≤ 2 by omega), (show 6 + 0 ≤ 6 by omega)⟩) ?_
          have q1 := rn_9 (f := tk ts so 1) (fun k => hts9 1 (so k)) (a := bg p) (hen p)
          have q2 : sc (gR (tk ts so 1) bg en) b1 p ≤ 360 := sc_le (fun k => rn_9 (fun k => hts9 1 (so k)) (hen k)) b1 p
          refine va_mmax hx hb (hml.trans hl.1.symm) hown (hts _ q891) (hts _ q150) (hts _ q41) (hts _ q151) (Nat.le_of_ble_eq_true rfl) (Nat.le_of_ble_eq_true rfl) (show 2 ≤ 2 by omega) (show 6 ≤ 6 by omega) dX4_trim_97 ?_
          refine xr_ti (x := (if nI (sc (gR (tk ts so 1) bg en) b1 p) < nI (rn (tk ts so 1) (bg p) (en p)) then nI (rn (tk ts so 1) (bg p) (en p)) else nI (sc (gR (tk ts so 1) bg en) b1 p))) (y := (nI (sc (gR (tk ts so 1) bg en) b1 (p + 1)))) (by rw [max_nI (by omega) (by omega), sc, if_neg c3]; rfl) ?_
          refine lv_istore (lv' := [(5, .int (nI (sc (gR (tk ts so 1) bg en) b1 (p + 1)))), (0, .ref mo), (1, .ref row), (2, .ref aB), (3, .ref aE), (4, .int (nI b1)), (6, .int (nI p))]) hx hb dX4_trim_100 hl (by decide) rfl (fun ls hl => ?_)
          refine lv_iinc (v := (nI (p + 1))) (lv' := [(6, .int (nI (p + 1))), (5, .int (nI (sc (gR (tk ts so 1) bg en) b1 (p + 1)))), (0, .ref mo), (1, .ref row), (2, .ref aB), (3, .ref aE), (4, .int (nI b1))]) hx hb dX4_trim_102 hl (k := 6) rfl (nI_add p 1) (by decide) rfl (fun ls hl => ?_)
          refine lv_goto (tgt := 69) hx hb dX4_trim_105 (by decide) ?_
          exact ih (p + 1) (by omega) (by omega) ls (lv_sub hl [2, 3, 4, 5, 6, 1, 0] rfl)
  exact lp1 (3 + 1) 0 (by omega) (by omega) ls (lv_sub hl [5, 6, 4, 3, 2, 1, 0] rfl)

set_option maxHeartbeats 4000000 in
set_option maxRecDepth 100000 in
theorem mt_give2 (l : Launch) (E : xG) (mo aS aT aW aO : Nat) (tr : Nat → Nat) (th : Int32) (n : Nat) (so : Nat → Nat) (m : Nat) (ts : Nat → Nat → Nat) (sh : Int32) (row : Nat) (rw : Nat → Int32) (way sz : Nat) (hw : way < 4) (hwm : xNeed way ≤ m) (hm : m ≤ 5) (hn : n ≤ 40) (hd : ∀ q, xMf mo aS aT tr q → q ≠ row) (hso : ∀ k, so k < 5) (hts9 : ∀ e k, ts e k ≤ 9) : Met l yX4_give_2 (ws_ yX4_give_2 cX4_give_2 3 none) ({ frames := 5, cells := 2, slots := 6, locals := 200 } : Room) (xPre E (fun q => q = row ∨ sz ≤ q) [.ref mo, .ref row, .int (nI way)] (fun H => H.size = sz ∧ xM0 E mo aS aT aW aO tr th n so m ts sh H ∧ xI E row 40 rw H)) (xQv (fun q => q = row ∨ sz ≤ q) (fun H => xI E row 40 (wGive (tk ts so) n m way) H)) 2 6 (fun q => q = row ∨ sz ≤ q) := by
  refine Met.ofW (cc := cX4_give_2) (maxL := 3) (ret := none) (by decide) rfl ?_
  intro P0 e0 s m0 args below meth c0 s₁ B hml hv
  obtain ⟨rfl, hE, hsz, hM, hR⟩ := hv
  have hx := B.exec
  have hb := B.bytes
  have hr := B.returns
  have hts := atoms_spec (ws := ws_ yX4_give_2 cX4_give_2 3 none) B.pre
  have hts : ∀ w ∈ lw_all, w.before _ s = true := fun w h => hts w (List.mem_cons_of_mem _ h)
  have hown : s.vm.findClass RX4 = some m0.cls := findClass_of_methodNamed B.named
  have hlocks := B.notSynchronized
  have hS : va_S (fun q => q = row ∨ sz ≤ q) s.heap s.heap [] := va_S.rf
  have hl := lv_entry ([.ref mo, .ref row, .int (nI way)]) (n := 3) (Nat.le_of_ble_eq_true rfl)
  rw [lg_entry_eq]
  generalize (lg_sl ([.ref mo, .ref row, .int (nI way)]) ++ List.replicate (3 - (lg_sl ([.ref mo, .ref row, .int (nI way)])).length) Slot.unset).toArray = ls at hl ⊢
  have hl : lv_has ls 3 [(0, .ref mo), (1, .ref row), (2, .int (nI way))] := hl
  refine lv_aload_n hx hb dX4_give_2_0 rfl (lv_at hl 1 rfl) ?_
  refine xr_muv (va_runS (As := [.ref row]) (rest := []) ⟨hx, hb, hml, hown, hts⟩ (mt_free l E row rw) (va_cwS 1 hts (lw_S q784 q785 q44 q786) rfl rfl rfl (by decide +kernel) ⟨Nat.le_of_ble_eq_true rfl, Nat.le_of_ble_eq_true rfl⟩) ⟨xPre_blind, fun U hU hW => xPre_at hE hS (fun q h => Or.inl h) hR hU hW⟩ rfl rfl hl.1 rfl (lv_room (Nat.le_of_ble_eq_true rfl)) dX4_give_2_1 ⟨(show 0 + 0 ≤ 2 by omega), (show 0 + 0 ≤ 6 by omega)⟩) hS (fun q h => Or.inl h) (fun q h => Or.inl h) (fun H_1 L_2 hP_ hz_3 hk_4 hS => ?_)
  obtain ⟨r_, hR, hr_⟩ := hP_
  have hR : xI E row 40 (fun _ => -1) H_1 := hR.to (fun j hj => hr_ j hj)
  have hM := hM.kept (fun q hq => hk_4 q (hM.lt hq) (hd q hq))
  have hmw : 1 ≤ m := Nat.le_trans (by unfold xNeed; split <;> (try split) <;> omega) hwm
  refine lv_iload_n hx hb dX4_give_2_4 rfl (lv_at hl 2 rfl) ?_
  refine xr_zne (tgt := 16) hx hb dX4_give_2_5 (by decide) (by omega) (fun c1 => ?_) (fun c1 => ?_)
  · refine lv_iload_n hx hb dX4_give_2_16 rfl (lv_at hl 2 rfl) ?_
    refine lv_iconst (v := (nI 1)) hx hb dX4_give_2_17 (by decide) ?_
    refine xr_cne (tgt := 29) hx hb dX4_give_2_18 (by decide) (by omega) (by omega) (fun c2 => ?_) (fun c2 => ?_)
    · refine lv_iload_n hx hb dX4_give_2_29 rfl (lv_at hl 2 rfl) ?_
      refine lv_iconst (v := (nI 2)) hx hb dX4_give_2_30 (by decide) ?_
      refine xr_cne (tgt := 44) hx hb dX4_give_2_31 (by decide) (by omega) (by omega) (fun c3 => ?_) (fun c3 => ?_)
      · refine lv_aload_n hx hb dX4_give_2_44 rfl (lv_at hl 0 rfl) ?_
        refine lv_aload_n hx hb dX4_give_2_45 rfl (lv_at hl 1 rfl) ?_
        refine xr_muv (va_runV (As := [.ref row]) (rest := []) ⟨hx, hb, hml, hown, hts⟩ (mt_knife l E mo aS aT aW aO tr th n so m ts sh row (fun _ => -1) (H_1).size hm hn hd hso hts9) (cwV 1 hts (lw_V q899 q901 qs24 q44 q902) rfl rfl rfl (by decide +kernel) ⟨Nat.le_of_ble_eq_true rfl, Nat.le_of_ble_eq_true rfl⟩) ⟨xPre_blind, ((hM).1).recv hE rfl, fun U hU hW => xPre_at hE hS (fun q h => h.elim Or.inl (fun h => Or.inr (Nat.le_trans (by omega) h))) (⟨rfl, hM, hR⟩) hU hW⟩ rfl rfl hl.1 rfl (lv_room (Nat.le_of_ble_eq_true rfl)) dX4_give_2_46 ⟨(show 0 + 1 ≤ 2 by omega), (show 0 + 5 ≤ 6 by omega)⟩) hS (fun q h => h.elim Or.inl (fun h => Or.inr (Nat.le_trans (by omega) h))) (fun q h => h.elim Or.inl (fun h => Or.inr (Nat.le_trans (by omega) h))) (fun H_5 L_6 hP_ hz_7 hk_8 hS => ?_)
        have hR := hP_
        refine W.widen (k := 2) (n := 6) (by omega) (by omega) ?_
        exact W.vret hx hb hr (fun t ht hW => ⟨⟨rfl, by rw [ht]; exact (by unfold wGive; rw [if_neg (by omega), if_neg (by omega), if_neg (by omega)]; exact hR)⟩, hS.F ht⟩) hS.2.2 dX4_give_2_49
      · refine lv_aload_n hx hb dX4_give_2_34 rfl (lv_at hl 0 rfl) ?_
        refine lv_aload_n hx hb dX4_give_2_35 rfl (lv_at hl 1 rfl) ?_
        refine lv_iconst (v := (nI 0)) hx hb dX4_give_2_36 (by decide) ?_
        refine xr_mu (va_runV (As := [.ref row, .int (nI 0)]) (rest := []) ⟨hx, hb, hml, hown, hts⟩ (mt_turns l E mo aS aT aW aO tr th n so m ts sh row (fun _ => -1) 0 (by omega) hm hn hd hso hts9) (cwV 2 hts (lw_V q892 q894 qs23 q44 q895) rfl rfl rfl (by decide +kernel) ⟨Nat.le_of_ble_eq_true rfl, Nat.le_of_ble_eq_true rfl⟩) ⟨xPre_blind, ((hM).1).recv hE rfl, fun U hU hW => xPre_at hE hS (fun q h => Or.inl h) (⟨hM, hR⟩) hU hW⟩ rfl rfl hl.1 rfl (lv_room (Nat.le_of_ble_eq_true rfl)) dX4_give_2_37 ⟨(show 0 + 0 ≤ 2 by omega), (show 0 + 0 ≤ 6 by omega)⟩) hS (fun q h => Or.inl h) (fun q h => Or.inl h) (fun vv H_9 L_10 hP_ hz_11 hk_12 hS => ?_)
        obtain ⟨hv_, hR⟩ := hP_
        subst hv_
        refine lv_pop hx hb dX4_give_2_40 rfl ?_
        refine lv_goto (tgt := 49) hx hb dX4_give_2_41 (by decide) ?_
        refine W.widen (k := 2) (n := 6) (by omega) (by omega) ?_
        exact W.vret hx hb hr (fun t ht hW => ⟨⟨rfl, by rw [ht]; exact (by subst c3; exact hR)⟩, hS.F ht⟩) hS.2.2 dX4_give_2_49
    · refine lv_aload_n hx hb dX4_give_2_21 rfl (lv_at hl 0 rfl) ?_
      refine lv_aload_n hx hb dX4_give_2_22 rfl (lv_at hl 1 rfl) ?_
      refine xr_muv (va_runV (As := [.ref row]) (rest := []) ⟨hx, hb, hml, hown, hts⟩ (mt_trim l E mo aS aT aW aO tr th n so m ts sh row (fun _ => -1) (H_1).size hn hd hso hts9) (cwV 1 hts (lw_V q883 q885 qs21 q44 q886) rfl rfl rfl (by decide +kernel) ⟨Nat.le_of_ble_eq_true rfl, Nat.le_of_ble_eq_true rfl⟩) ⟨xPre_blind, ((hM).1).recv hE rfl, fun U hU hW => xPre_at hE hS (fun q h => h.elim Or.inl (fun h => Or.inr (Nat.le_trans (by omega) h))) (⟨rfl, hM, hR⟩) hU hW⟩ rfl rfl hl.1 rfl (lv_room (Nat.le_of_ble_eq_true rfl)) dX4_give_2_23 ⟨(show 0 + 2 ≤ 2 by omega), (show 0 + 6 ≤ 6 by omega)⟩) hS (fun q h => h.elim Or.inl (fun h => Or.inr (Nat.le_trans (by omega) h))) (fun q h => h.elim Or.inl (fun h => Or.inr (Nat.le_trans (by omega) h))) (fun H_13 L_14 hP_ hz_15 hk_16 hS => ?_)
      have hR := hP_
      refine lv_goto (tgt := 49) hx hb dX4_give_2_26 (by decide) ?_
      exact W.vret hx hb hr (fun t ht hW => ⟨⟨rfl, by rw [ht]; exact (by subst c2; exact hR)⟩, hS.F ht⟩) hS.2.2 dX4_give_2_49
  · refine lv_aload_n hx hb dX4_give_2_8 rfl (lv_at hl 0 rfl) ?_
    refine lv_aload_n hx hb dX4_give_2_9 rfl (lv_at hl 1 rfl) ?_
    refine xr_muv (va_runV (As := [.ref row]) (rest := []) ⟨hx, hb, hml, hown, hts⟩ (mt_half l E mo aS aT aW aO tr th n so m ts sh row (fun _ => -1) hn hd hso hts9) (cwV 1 hts (lw_V q864 q866 qs17 q44 q867) rfl rfl rfl (by decide +kernel) ⟨Nat.le_of_ble_eq_true rfl, Nat.le_of_ble_eq_true rfl⟩) ⟨xPre_blind, ((hM).1).recv hE rfl, fun U hU hW => xPre_at hE hS (fun q h => Or.inl h) (⟨hM, hR⟩) hU hW⟩ rfl rfl hl.1 rfl (lv_room (Nat.le_of_ble_eq_true rfl)) dX4_give_2_10 ⟨(show 0 + 0 ≤ 2 by omega), (show 0 + 0 ≤ 6 by omega)⟩) hS (fun q h => Or.inl h) (fun q h => Or.inl h) (fun H_17 L_18 hP_ hz_19 hk_20 hS => ?_)
    have hR := hP_
    refine lv_goto (tgt := 49) hx hb dX4_give_2_13 (by decide) ?_
    refine W.widen (k := 2) (n := 6) (by omega) (by omega) ?_
    exact W.vret hx hb hr (fun t ht hW => ⟨⟨rfl, by rw [ht]; exact (by subst c1; exact hR)⟩, hS.F ht⟩) hS.2.2 dX4_give_2_49
