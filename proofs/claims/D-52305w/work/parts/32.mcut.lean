set_option maxHeartbeats 4000000 in
set_option maxRecDepth 100000 in
theorem mt_cut (l : Launch) (E : xG) (A : Nat → Prop) (mo aS aT aW aO : Nat) (tr : Nat → Nat) (th : Int32) (n : Nat) (so : Nat → Nat) (m : Nat) (ts : Nat → Nat → Nat) (sh : Int32) (e b parts part : Nat) (he : e < 5) (hn : n ≤ 40) (hb0 : b ≤ n) (hp : part < parts) (hp8 : parts ≤ 8) (hso : ∀ k, so k < 5) (hts9 : ∀ e k, ts e k ≤ 9) : Met l yX4_cut (ws_ yX4_cut cX4_cut 8 (some .int)) ({ frames := 3, cells := 0, slots := 0, locals := 120 } : Room) (xPre E A [.ref mo, .int (nI e), .int (nI b), .int (nI parts), .int (nI part)] (fun H => xM0 E mo aS aT aW aO tr th n so m ts sh H)) (xRo (.int (nI (ct (tk ts so e) n b parts part)))) 0 0 (fun _ => False) := by
  refine Met.ofW (cc := cX4_cut) (maxL := 8) (ret := (some .int)) (by decide) rfl ?_
  intro P0 e0 s m0 args below meth c0 s₁ B hml hv
  obtain ⟨rfl, hE, hM⟩ := hv
  have hx := B.exec
  have hb := B.bytes
  have hr := B.returns
  have hts := atoms_spec (ws := ws_ yX4_cut cX4_cut 8 (some .int)) B.pre
  have hts : ∀ w ∈ lw_all, w.before _ s = true := fun w h => hts w (List.mem_cons_of_mem _ h)
  have hown : s.vm.findClass RX4 = some m0.cls := findClass_of_methodNamed B.named
  have hlocks := B.notSynchronized
  have hS : va_S A s.heap s.heap [] := va_S.rf
  have hl := lv_entry ([.ref mo, .int (nI e), .int (nI b), .int (nI parts), .int (nI part)]) (n := 8) (Nat.le_of_ble_eq_true rfl)
  rw [lg_entry_eq]
  generalize (lg_sl ([.ref mo, .int (nI e), .int (nI b), .int (nI parts), .int (nI part)]) ++ List.replicate (8 - (lg_sl ([.ref mo, .int (nI e), .int (nI b), .int (nI parts), .int (nI part)])).length) Slot.unset).toArray = ls at hl ⊢
  have hl : lv_has ls 8 [(0, .ref mo), (1, .int (nI e)), (2, .int (nI b)), (3, .int (nI parts)), (4, .int (nI part))] := hl
  refine lv_iload hx hb dX4_cut_0 (lv_at hl 4 rfl) ?_
  refine lv_iload_n hx hb dX4_cut_2 rfl (lv_at hl 3 rfl) ?_
  refine lv_iconst (v := (nI 1)) hx hb dX4_cut_3 (by decide) ?_
  refine xr_isub hx hb (by omega) dX4_cut_4 ?_
  refine xr_cne (tgt := 13) hx hb dX4_cut_5 (by decide) (by omega) (by omega) (fun c_1 => ?_) (fun c_1 => ?_)
  · refine lv_aload_n hx hb dX4_cut_13 rfl (lv_at hl 0 rfl) ?_
    refine lv_iload_n hx hb dX4_cut_14 rfl (lv_at hl 1 rfl) ?_
    refine lv_iload_n hx hb dX4_cut_15 rfl (lv_at hl 2 rfl) ?_
    refine lv_aload_n hx hb dX4_cut_16 rfl (lv_at hl 0 rfl) ?_
    refine xr_get hx hb hts in_X4 hown hE ((hM).1) rfl 1 (by decide) (hts _ q788) (fun _ h => h) rfl dX4_cut_17 ?_
    refine xr_ro (va_runV (As := [.int (nI e), .int (nI b), .int (nI n)]) (rest := []) ⟨hx, hb, hml, hown, hts⟩ (mt_run l E A mo aS aT aW aO tr th n so m ts sh e b n he hn (by omega) hso) (cwV 3 hts (lw_V q872 q874 qs19 q44 q875) rfl rfl rfl (by decide +kernel) ⟨Nat.le_of_ble_eq_true rfl, Nat.le_of_ble_eq_true rfl⟩) ⟨xPre_blind, ((hM).1).recv hE rfl, fun U hU hW => xPre_at hE hS (fun _ h => h) hM hU hW⟩ rfl rfl hl.1 rfl (lv_room (Nat.le_of_ble_eq_true rfl)) dX4_cut_20 ⟨(show 0 + 0 ≤ 0 by omega), (show 0 + 0 ≤ 0 by omega)⟩) ?_
    refine lv_istore (lv' := [(5, .int (nI (rn (tk ts so e) b n))), (0, .ref mo), (1, .int (nI e)), (2, .int (nI b)), (3, .int (nI parts)), (4, .int (nI part))]) hx hb dX4_cut_23 hl (by decide) rfl (fun ls hl => ?_)
    refine lv_iload_n hx hb dX4_cut_25 rfl (lv_at hl 3 rfl) ?_
    refine lv_istore (lv' := [(6, .int (nI b)), (5, .int (nI (rn (tk ts so e) b n))), (0, .ref mo), (1, .int (nI e)), (2, .int (nI b)), (3, .int (nI parts)), (4, .int (nI part))]) hx hb dX4_cut_26 hl (by decide) rfl (fun ls hl => ?_)
    refine lv_iconst (v := (nI 0)) hx hb dX4_cut_28 (by decide) ?_
    refine lv_istore (lv' := [(7, .int (nI 0)), (6, .int (nI b)), (5, .int (nI (rn (tk ts so e) b n))), (0, .ref mo), (1, .int (nI e)), (2, .int (nI b)), (3, .int (nI parts)), (4, .int (nI part))]) hx hb dX4_cut_29 hl (by decide) rfl (fun ls hl => ?_)
    have lp : ∀ (nn : Nat) (c : Nat), (b ≤ c) → (c ≤ n) → (fd (cp (tk ts so e) n b parts part) b (n - b) = fd (cp (tk ts so e) n b parts part) c (n - c)) → (n - c) < nn → ∀ (ls : Array Slot), lv_has ls 8 [(0, .ref mo), (1, .int (nI e)), (3, .int (nI parts)), (4, .int (nI part)), (5, .int (nI (rn (tk ts so e) b n))), (6, .int (nI c)), (7, .int (nI (rn (tk ts so e) b c)))] → W P0 l e0 (headSpec (ws_ yX4_cut cX4_cut 8 (some .int)) ({ frames := 3, cells := 0, slots := 0, locals := 120 } : Room)).room s m0 ([.ref mo, .int (nI e), .int (nI b), .int (nI parts), .int (nI part)] : List Value).toArray below meth c0 s.heap ([]) 0 0 (MQ below (xRo (.int (nI (ct (tk ts so e) n b parts part)))) ([.ref mo, .int (nI e), .int (nI b), .int (nI parts), .int (nI part)] : List Value).toArray s 0 0 (fun _ => False)) (F0 m0 31 ls []) := by
      intro nn
      induction nn with
      | zero =>
        intro c hc1 hc2 hc3 hnn
        exact absurd hnn (Nat.not_lt_zero _)
      | succ nn ih =>
        intro c hc1 hc2 hc3 hnn ls hl
        have b1 : rn (tk ts so e) b c * parts ≤ 360 * 8 := Nat.mul_le_mul (rn_9 (fun k => hts9 e (so k)) (by omega)) hp8
        have b2 : (part + 1) * rn (tk ts so e) b n ≤ 8 * 360 := Nat.mul_le_mul (by omega) (rn_9 (fun k => hts9 e (so k)) hn)
        refine lv_iload hx hb dX4_cut_31 (lv_at hl 6 rfl) ?_
        refine lv_iload_n hx hb dX4_cut_33 rfl (lv_at hl 2 rfl) ?_
        refine xr_imul hx hb dX4_cut_34 ?_
        refine lv_iload hx hb dX4_cut_35 (lv_at hl 3 rfl) ?_
        refine lv_iconst (v := (nI 1)) hx hb dX4_cut_37 (by decide) ?_
        refine xr_iadd hx hb dX4_cut_38 ?_
        refine lv_iload hx hb dX4_cut_39 (lv_at hl 4 rfl) ?_
        refine xr_imul hx hb dX4_cut_41 ?_
        refine xr_cge (tgt := 63) hx hb dX4_cut_42 (by decide) (by omega) (by omega) (fun c2 => ?_) (fun c2 => ?_)
        · refine lv_iload hx hb dX4_cut_63 (lv_at hl 5 rfl) ?_
          refine xr_ti (x := (nI c)) (y := (nI (ct (tk ts so e) n b parts part))) (by rw [ct, if_neg (by omega), hc3, ct_stop c2]) ?_
          exact W.iret hx hb hr (fun t ht hW => ⟨rfl, ht⟩) (fun q h => by cases h) dX4_cut_65
        · have hcn := ct_more c2 hp hc2
          refine lv_iload hx hb dX4_cut_45 (lv_at hl 6 rfl) ?_
          refine lv_aload_n hx hb dX4_cut_47 rfl (lv_at hl 0 rfl) ?_
          refine lv_iload_n hx hb dX4_cut_48 rfl (lv_at hl 1 rfl) ?_
          refine lv_iload hx hb dX4_cut_49 (lv_at hl 5 rfl) ?_
          refine xr_ro (va_runV (As := [.int (nI e), .int (nI c)]) (rest := [.int (nI (rn (tk ts so e) b c))]) ⟨hx, hb, hml, hown, hts⟩ (mt_likes l E A mo aS aT aW aO tr th n so m ts sh e c he (by omega) hso) (cwV 2 hts (lw_V q876 q878 qs20 q44 q879) rfl rfl rfl (by decide +kernel) ⟨Nat.le_of_ble_eq_true rfl, Nat.le_of_ble_eq_true rfl⟩) ⟨xPre_blind, ((hM).1).recv hE rfl, fun U hU hW => xPre_at hE hS (fun _ h => h) hM hU hW⟩ rfl rfl hl.1 rfl (lv_room (Nat.le_of_ble_eq_true rfl)) dX4_cut_51 ⟨(show 0 + 0 ≤ 0 by omega), (show 0 + 0 ≤ 0 by omega)⟩) ?_
          refine xr_iadd hx hb dX4_cut_54 ?_
          refine xr_ti (x := (nI ((rn (tk ts so e) b c) + (tk ts so e c)))) (y := (nI (rn (tk ts so e) b (c + 1)))) (by rw [rn_s hc1]) ?_
          refine lv_istore (lv' := [(7, .int (nI (rn (tk ts so e) b (c + 1)))), (0, .ref mo), (1, .int (nI e)), (3, .int (nI parts)), (4, .int (nI part)), (5, .int (nI (rn (tk ts so e) b n))), (6, .int (nI c))]) hx hb dX4_cut_55 hl (by decide) rfl (fun ls hl => ?_)
          refine lv_iinc (v := (nI (c + 1))) (lv' := [(6, .int (nI (c + 1))), (7, .int (nI (rn (tk ts so e) b (c + 1)))), (0, .ref mo), (1, .int (nI e)), (3, .int (nI parts)), (4, .int (nI part)), (5, .int (nI (rn (tk ts so e) b n)))]) hx hb dX4_cut_57 hl (k := 6) rfl (nI_add c 1) (by decide) rfl (fun ls hl => ?_)
          refine lv_goto (tgt := 31) hx hb dX4_cut_60 (by decide) ?_
          exact ih (c + 1) (by omega) (by omega) (by rw [hc3, ct_step c2 hcn]) (by omega) ls (lv_sub hl [2, 3, 4, 5, 6, 0, 1] rfl)
    exact lp (n - b + 1) b (Nat.le_refl _) hb0 rfl (by omega) ls (by rw [rn_self]; exact lv_sub hl [3, 4, 6, 7, 2, 1, 0] rfl)
  · refine lv_aload_n hx hb dX4_cut_8 rfl (lv_at hl 0 rfl) ?_
    refine xr_get hx hb hts in_X4 hown hE ((hM).1) rfl 1 (by decide) (hts _ q788) (fun _ h => h) rfl dX4_cut_9 ?_
    refine xr_ti (x := (nI n)) (y := (nI (ct (tk ts so e) n b parts part))) (by rw [ct, if_pos (by omega)]) ?_
    exact W.iret hx hb hr (fun t ht hW => ⟨rfl, ht⟩) (fun q h => by cases h) dX4_cut_12

set_option maxHeartbeats 4000000 in
set_option maxRecDepth 100000 in
theorem mt_best (l : Launch) (E : xG) (A : Nat → Prop) (mo aS aT aW aO : Nat) (tr : Nat → Nat) (th : Int32) (n : Nat) (so : Nat → Nat) (m : Nat) (ts : Nat → Nat → Nat) (sh : Int32) (aB aE : Nat) (bg en : Nat → Nat) (e : Nat) (gone : Int32) (he : e < 5) (hbg : ∀ k, bg k ≤ 40) (hen : ∀ k, en k ≤ 40) (hso : ∀ k, so k < 5) (hts9 : ∀ e k, ts e k ≤ 9) : Met l yX4_best (ws_ yX4_best cX4_best 7 (some .int)) ({ frames := 3, cells := 0, slots := 0, locals := 120 } : Room) (xPre E A [.ref mo, .int (nI e), .ref aB, .ref aE, .int gone] (fun H => xM0 E mo aS aT aW aO tr th n so m ts sh H ∧ xI E aB 3 (fun k => nI (bg k)) H ∧ xI E aE 3 (fun k => nI (en k)) H)) (xRo (.int (oi (bo (fun p => rn (tk ts so e) (bg p) (en p)) (fun p => decide (nI p = gone)) 3)))) 0 0 (fun _ => False) := by
  refine Met.ofW (cc := cX4_best) (maxL := 7) (ret := (some .int)) (by decide) rfl ?_
  intro P0 e0 s m0 args below meth c0 s₁ B hml hv
  obtain ⟨rfl, hE, hM, hB, hF⟩ := hv
  have hx := B.exec
  have hb := B.bytes
  have hr := B.returns
  have hts := atoms_spec (ws := ws_ yX4_best cX4_best 7 (some .int)) B.pre
  have hts : ∀ w ∈ lw_all, w.before _ s = true := fun w h => hts w (List.mem_cons_of_mem _ h)
  have hown : s.vm.findClass RX4 = some m0.cls := findClass_of_methodNamed B.named
  have hlocks := B.notSynchronized
  have hS : va_S A s.heap s.heap [] := va_S.rf
  have hl := lv_entry ([.ref mo, .int (nI e), .ref aB, .ref aE, .int gone]) (n := 7) (Nat.le_of_ble_eq_true rfl)
  rw [lg_entry_eq]
  generalize (lg_sl ([.ref mo, .int (nI e), .ref aB, .ref aE, .int gone]) ++ List.replicate (7 - (lg_sl ([.ref mo, .int (nI e), .ref aB, .ref aE, .int gone])).length) Slot.unset).toArray = ls at hl ⊢
  have hl : lv_has ls 7 [(0, .ref mo), (1, .int (nI e)), (2, .ref aB), (3, .ref aE), (4, .int gone)] := hl
  refine lv_iconst (v := (-1)) hx hb dX4_best_0 (by decide) ?_
  refine lv_istore (lv' := [(5, .int (-1)), (0, .ref mo), (1, .int (nI e)), (2, .ref aB), (3, .ref aE), (4, .int gone)]) hx hb dX4_best_1 hl (by decide) rfl (fun ls hl => ?_)
  refine lv_iconst (v := (nI 0)) hx hb dX4_best_3 (by decide) ?_
  refine lv_istore (lv' := [(6, .int (nI 0)), (5, .int (-1)), (0, .ref mo), (1, .int (nI e)), (2, .ref aB), (3, .ref aE), (4, .int gone)]) hx hb dX4_best_4 hl (by decide) rfl (fun ls hl => ?_)
  have lp : ∀ (nn : Nat) (p : Nat), (p ≤ 3) → (3 - p) < nn → ∀ (ls : Array Slot), lv_has ls 7 [(0, .ref mo), (1, .int (nI e)), (2, .ref aB), (3, .ref aE), (4, .int gone), (5, .int (oi (bo (fun p => rn (tk ts so e) (bg p) (en p)) (fun p => decide (nI p = gone)) p))), (6, .int (nI p))] → W P0 l e0 (headSpec (ws_ yX4_best cX4_best 7 (some .int)) ({ frames := 3, cells := 0, slots := 0, locals := 120 } : Room)).room s m0 ([.ref mo, .int (nI e), .ref aB, .ref aE, .int gone] : List Value).toArray below meth c0 s.heap ([]) 0 0 (MQ below (xRo (.int (oi (bo (fun p => rn (tk ts so e) (bg p) (en p)) (fun p => decide (nI p = gone)) 3)))) ([.ref mo, .int (nI e), .ref aB, .ref aE, .int gone] : List Value).toArray s 0 0 (fun _ => False)) (F0 m0 6 ls []) := by
    intro nn
    induction nn with
    | zero =>
      intro p hp1 hnn
      exact absurd hnn (Nat.not_lt_zero _)
    | succ nn ih =>
      intro p hp1 hnn ls hl
      refine lv_iload hx hb dX4_best_6 (lv_at hl 6 rfl) ?_
      refine lv_iconst (v := (nI 3)) hx hb dX4_best_8 (by decide) ?_
      refine xr_cge (tgt := 64) hx hb dX4_best_9 (by decide) (by omega) (by omega) (fun c_1 => ?_) (fun c_1 => ?_)
      · obtain rfl : 3 = p := by omega
        refine lv_iload hx hb dX4_best_64 (lv_at hl 5 rfl) ?_
        exact W.iret hx hb hr (fun t ht hW => ⟨rfl, ht⟩) (fun q h => by cases h) dX4_best_66
      · refine lv_iload hx hb dX4_best_12 (lv_at hl 6 rfl) ?_
        refine lv_iload hx hb dX4_best_14 (lv_at hl 4 rfl) ?_
        refine lv_icmp_eq (tgt := 58) hx hb dX4_best_16 (by decide) (fun c2 => ?_) (fun c2 => ?_)
        · refine lv_iinc (v := (nI (p + 1))) (lv' := [(6, .int (nI (p + 1))), (0, .ref mo), (1, .int (nI e)), (2, .ref aB), (3, .ref aE), (4, .int gone), (5, .int (oi (bo (fun p => rn (tk ts so e) (bg p) (en p)) (fun p => decide (nI p = gone)) p)))]) hx hb dX4_best_58 hl (k := 6) rfl (nI_add p 1) (by decide) rfl (fun ls hl => ?_)
          refine lv_goto (tgt := 6) hx hb dX4_best_61 (by decide) ?_
          exact ih (p + 1) (by omega) (by omega) ls (by rw [bo_sk (decide_eq_true c2)]; exact lv_sub hl [1, 2, 3, 4, 5, 6, 0] rfl)
        · have hs : (fun p => decide (nI p = gone)) p = false := decide_eq_false c2
          rcases hb_ : bo (fun p => rn (tk ts so e) (bg p) (en p)) (fun p => decide (nI p = gone)) p with _ | b_
          · have hl : lv_has ls 7 [(0, .ref mo), (1, .int (nI e)), (2, .ref aB), (3, .ref aE), (4, .int gone), (5, .int (-1)), (6, .int (nI p))] := by rw [hb_] at hl; exact hl
            refine lv_iload hx hb dX4_best_19 (lv_at hl 5 rfl) ?_
            refine lv_iconst (v := (-1)) hx hb dX4_best_21 (by decide) ?_
            refine lv_icmp_eq (tgt := 54) hx hb dX4_best_22 (by decide) (fun c3 => ?_) (fun c3 => absurd rfl c3)
            refine lv_iload hx hb dX4_best_54 (lv_at hl 6 rfl) ?_
            refine lv_istore (lv' := [(5, .int (nI p)), (0, .ref mo), (1, .int (nI e)), (2, .ref aB), (3, .ref aE), (4, .int gone), (6, .int (nI p))]) hx hb dX4_best_56 hl (by decide) rfl (fun ls hl => ?_)
            refine lv_iinc (v := (nI (p + 1))) (lv' := [(6, .int (nI (p + 1))), (5, .int (nI p)), (0, .ref mo), (1, .int (nI e)), (2, .ref aB), (3, .ref aE), (4, .int gone)]) hx hb dX4_best_58 hl (k := 6) rfl (nI_add p 1) (by decide) rfl (fun ls hl => ?_)
            refine lv_goto (tgt := 6) hx hb dX4_best_61 (by decide) ?_
            exact ih (p + 1) (by omega) (by omega) ls (by rw [bo_none hs hb_]; exact lv_sub hl [2, 3, 4, 5, 6, 1, 0] rfl)
          · have hl : lv_has ls 7 [(0, .ref mo), (1, .int (nI e)), (2, .ref aB), (3, .ref aE), (4, .int gone), (5, .int (nI b_)), (6, .int (nI p))] := by rw [hb_] at hl; exact hl
            have hbi := bo_in hb_
            refine lv_iload hx hb dX4_best_19 (lv_at hl 5 rfl) ?_
            refine lv_iconst (v := (-1)) hx hb dX4_best_21 (by decide) ?_
            refine lv_icmp_eq (tgt := 54) hx hb dX4_best_22 (by decide) (fun c3 => absurd c3 (oi_m1 (by omega))) (fun c3 => ?_)
            refine lv_aload_n hx hb dX4_best_25 rfl (lv_at hl 0 rfl) ?_
            refine lv_iload_n hx hb dX4_best_26 rfl (lv_at hl 1 rfl) ?_
            refine lv_aload_n hx hb dX4_best_27 rfl (lv_at hl 2 rfl) ?_
            refine lv_iload hx hb dX4_best_28 (lv_at hl 6 rfl) ?_
            refine xr_iald hx hb hE hB (i := p) (by omega) (by omega) dX4_best_30 ?_
            refine lv_aload_n hx hb dX4_best_31 rfl (lv_at hl 3 rfl) ?_
            refine lv_iload hx hb dX4_best_32 (lv_at hl 6 rfl) ?_
            refine xr_iald hx hb hE hF (i := p) (by omega) (by omega) dX4_best_34 ?_
            refine xr_ro (va_runV (As := [.int (nI e), .int (nI (bg p)), .int (nI (en p))]) (rest := []) ⟨hx, hb, hml, hown, hts⟩ (mt_run l E A mo aS aT aW aO tr th n so m ts sh e (bg p) (en p) he (hen p) (hbg p) hso) (cwV 3 hts (lw_V q872 q874 qs19 q44 q875) rfl rfl rfl (by decide +kernel) ⟨Nat.le_of_ble_eq_true rfl, Nat.le_of_ble_eq_true rfl⟩) ⟨xPre_blind, ((hM).1).recv hE rfl, fun U hU hW => xPre_at hE hS (fun _ h => h) hM hU hW⟩ rfl rfl hl.1 rfl (lv_room (Nat.le_of_ble_eq_true rfl)) dX4_best_35 ⟨(show 0 + 0 ≤ 0 by omega), (show 0 + 0 ≤ 0 by omega)⟩) ?_
            refine lv_aload_n hx hb dX4_best_38 rfl (lv_at hl 0 rfl) ?_
            refine lv_iload_n hx hb dX4_best_39 rfl (lv_at hl 1 rfl) ?_
            refine lv_aload_n hx hb dX4_best_40 rfl (lv_at hl 2 rfl) ?_
            refine lv_iload hx hb dX4_best_41 (lv_at hl 5 rfl) ?_
            refine xr_iald hx hb hE hB (i := b_) (by omega) (by omega) dX4_best_43 ?_
            refine lv_aload_n hx hb dX4_best_44 rfl (lv_at hl 3 rfl) ?_
            refine lv_iload hx hb dX4_best_45 (lv_at hl 5 rfl) ?_
            refine xr_iald hx hb hE hF (i := b_) (by omega) (by omega) dX4_best_47 ?_
            refine xr_ro (va_runV (As := [.int (nI e), .int (nI (bg b_)), .int (nI (en b_))]) (rest := [.int (nI (rn (tk ts so e) (bg p) (en p)))]) ⟨hx, hb, hml, hown, hts⟩ (mt_run l E A mo aS aT aW aO tr th n so m ts sh e (bg b_) (en b_) he (hen b_) (hbg b_) hso) (cwV 3 hts (lw_V q872 q874 qs19 q44 q875) rfl rfl rfl (by decide +kernel) ⟨Nat.le_of_ble_eq_true rfl, Nat.le_of_ble_eq_true rfl⟩) ⟨xPre_blind, ((hM).1).recv hE rfl, fun U hU hW => xPre_at hE hS (fun _ h => h) hM hU hW⟩ rfl rfl hl.1 rfl (lv_room (Nat.le_of_ble_eq_true rfl)) dX4_best_48 ⟨(show 0 + 0 ≤ 0 by omega), (show 0 + 0 ≤ 0 by omega)⟩) ?_
            have q1 := rn_9 (f := (tk ts so e)) (fun k => hts9 e (so k)) (a := bg p) (hen p)
            have q2 := rn_9 (f := (tk ts so e)) (fun k => hts9 e (so k)) (a := bg b_) (hen b_)
            refine xr_cle (tgt := 58) hx hb dX4_best_51 (by decide) (by omega) (by omega) (fun c4 => ?_) (fun c4 => ?_)
            · refine lv_iinc (v := (nI (p + 1))) (lv' := [(6, .int (nI (p + 1))), (0, .ref mo), (1, .int (nI e)), (2, .ref aB), (3, .ref aE), (4, .int gone), (5, .int (nI b_))]) hx hb dX4_best_58 hl (k := 6) rfl (nI_add p 1) (by decide) rfl (fun ls hl => ?_)
              refine lv_goto (tgt := 6) hx hb dX4_best_61 (by decide) ?_
              exact ih (p + 1) (by omega) (by omega) ls (by rw [bo_ge hs hb_ (show ¬ rn (tk ts so e) (bg b_) (en b_) < rn (tk ts so e) (bg p) (en p) by omega)]; exact lv_sub hl [1, 2, 3, 4, 5, 6, 0] rfl)
            · refine lv_iload hx hb dX4_best_54 (lv_at hl 6 rfl) ?_
              refine lv_istore (lv' := [(5, .int (nI p)), (0, .ref mo), (1, .int (nI e)), (2, .ref aB), (3, .ref aE), (4, .int gone), (6, .int (nI p))]) hx hb dX4_best_56 hl (by decide) rfl (fun ls hl => ?_)
              refine lv_iinc (v := (nI (p + 1))) (lv' := [(6, .int (nI (p + 1))), (5, .int (nI p)), (0, .ref mo), (1, .int (nI e)), (2, .ref aB), (3, .ref aE), (4, .int gone)]) hx hb dX4_best_58 hl (k := 6) rfl (nI_add p 1) (by decide) rfl (fun ls hl => ?_)
              refine lv_goto (tgt := 6) hx hb dX4_best_61 (by decide) ?_
              exact ih (p + 1) (by omega) (by omega) ls (by rw [bo_lt hs hb_ c4]; exact lv_sub hl [2, 3, 4, 5, 6, 1, 0] rfl)
  exact lp (3 + 1) 0 (by omega) (by omega) ls (lv_sub hl [2, 3, 4, 5, 6, 1, 0] rfl)

set_option maxHeartbeats 4000000 in
set_option maxRecDepth 100000 in
theorem mt_take (l : Launch) (E : xG) (row : Nat) (rw : Nat → Int32) (a z : Nat) (x : Int32) (haz : a ≤ z) (hz : z ≤ 40) : Met l yX4_take (ws_ yX4_take cX4_take 5 none) ({ frames := 1, cells := 0, slots := 0, locals := 40 } : Room) (xPre E (fun q => q = row) [.ref row, .int (nI a), .int (nI z), .int x] (fun H => xI E row 40 rw H)) (xQv (fun q => q = row) (fun H => xI E row 40 (tkf rw a z x) H)) 0 0 (fun q => q = row) := by
  refine Met.ofW (cc := cX4_take) (maxL := 5) (ret := none) (by decide) rfl ?_
  intro P0 e0 s m0 args below meth c0 s₁ B hml hv
  obtain ⟨rfl, hE, hR⟩ := hv
  have hx := B.exec
  have hb := B.bytes
  have hr := B.returns
  have hts := atoms_spec (ws := ws_ yX4_take cX4_take 5 none) B.pre
  have hts : ∀ w ∈ lw_all, w.before _ s = true := fun w h => hts w (List.mem_cons_of_mem _ h)
  have hown : s.vm.findClass RX4 = some m0.cls := findClass_of_methodNamed B.named
  have hlocks := B.notSynchronized
  have hS : va_S (fun q => q = row) s.heap s.heap [] := va_S.rf
  have hl := lv_entry ([.ref row, .int (nI a), .int (nI z), .int x]) (n := 5) (Nat.le_of_ble_eq_true rfl)
  rw [lg_entry_eq]
  generalize (lg_sl ([.ref row, .int (nI a), .int (nI z), .int x]) ++ List.replicate (5 - (lg_sl ([.ref row, .int (nI a), .int (nI z), .int x])).length) Slot.unset).toArray = ls at hl ⊢
  have hl : lv_has ls 5 [(0, .ref row), (1, .int (nI a)), (2, .int (nI z)), (3, .int x)] := hl
  refine lv_iload_n hx hb dX4_take_0 rfl (lv_at hl 1 rfl) ?_
  refine lv_istore (lv' := [(4, .int (nI a)), (0, .ref row), (1, .int (nI a)), (2, .int (nI z)), (3, .int x)]) hx hb dX4_take_1 hl (by decide) rfl (fun ls hl => ?_)
  have lp : ∀ (nn : Nat) (k : Nat), (a ≤ k) → (k ≤ z) → (z - k) < nn → ∀ (H : Heap) (locs : List Loc), (xI E row 40 (tkf rw a k x) H) → va_S (fun q => q = row) s.heap H locs → ∀ (ls : Array Slot), lv_has ls 5 [(0, .ref row), (2, .int (nI z)), (3, .int x), (4, .int (nI k))] → W P0 l e0 (headSpec (ws_ yX4_take cX4_take 5 none) ({ frames := 1, cells := 0, slots := 0, locals := 40 } : Room)).room s m0 ([.ref row, .int (nI a), .int (nI z), .int x] : List Value).toArray below meth c0 H locs 0 0 (MQ below (xQv (fun q => q = row) (fun H => xI E row 40 (tkf rw a z x) H)) ([.ref row, .int (nI a), .int (nI z), .int x] : List Value).toArray s 0 0 (fun q => q = row)) (F0 m0 3 ls []) := by
    intro nn
    induction nn with
    | zero =>
      intro k hk1 hk2 hnn
      exact absurd hnn (Nat.not_lt_zero _)
    | succ nn ih =>
      intro k hk1 hk2 hnn H locs hR hS ls hl
      refine lv_iload hx hb dX4_take_3 (lv_at hl 3 rfl) ?_
      refine lv_iload_n hx hb dX4_take_5 rfl (lv_at hl 1 rfl) ?_
      refine xr_cge (tgt := 20) hx hb dX4_take_6 (by decide) (by omega) (by omega) (fun c_1 => ?_) (fun c_1 => ?_)
      · obtain rfl : z = k := by omega
        exact W.vret hx hb hr (fun t ht hW => ⟨⟨rfl, by rw [ht]; exact hR⟩, hS.F ht⟩) hS.2.2 dX4_take_20
      · refine lv_aload_n hx hb dX4_take_9 rfl (lv_at hl 0 rfl) ?_
        refine lv_iload hx hb dX4_take_10 (lv_at hl 3 rfl) ?_
        refine lv_iload_n hx hb dX4_take_12 rfl (lv_at hl 2 rfl) ?_
        refine xr_iast hx hb hE hS rfl hR (i := k) (by omega) (by omega) dX4_take_13 (fun H_2 L_3 hR hz_4 ho_5 hS => ?_)
        have hR : xI E row 40 (tkf rw a (k + 1) x) H_2 := by rw [← (tkf_s rw hk1 x)]; exact hR
        refine lv_iinc (v := (nI (k + 1))) (lv' := [(4, .int (nI (k + 1))), (0, .ref row), (2, .int (nI z)), (3, .int x)]) hx hb dX4_take_14 hl (k := 3) rfl (nI_add k 1) (by decide) rfl (fun ls hl => ?_)
        refine lv_goto (tgt := 3) hx hb dX4_take_17 (by decide) ?_
        exact ih (k + 1) (by omega) (by omega) (by omega) _ _ hR hS ls (lv_sub hl [1, 2, 3, 0] rfl)
  exact lp (z - a + 1) a (Nat.le_refl _) haz (by omega) _ _ (by rw [tkf_0 rw (Nat.le_refl _)]; exact hR) hS ls (lv_sub hl [1, 3, 4, 0] rfl)

set_option maxHeartbeats 4000000 in
set_option maxRecDepth 100000 in
theorem mt_free (l : Launch) (E : xG) (row : Nat) (rw : Nat → Int32) : Met l yX4_free (ws_ yX4_free cX4_free 2 none) ({ frames := 1, cells := 0, slots := 0, locals := 40 } : Room) (xPre E (fun q => q = row) [.ref row] (fun H => xI E row 40 rw H)) (xQv (fun q => q = row) (fun H => ∃ r : Nat → Int32, xI E row 40 r H ∧ ∀ k, k < 40 → r k = -1)) 0 0 (fun q => q = row) := by
  refine Met.ofW (cc := cX4_free) (maxL := 2) (ret := none) (by decide) rfl ?_
  intro P0 e0 s m0 args below meth c0 s₁ B hml hv
  obtain ⟨rfl, hE, hR⟩ := hv
  have hx := B.exec
  have hb := B.bytes
  have hr := B.returns
  have hts := atoms_spec (ws := ws_ yX4_free cX4_free 2 none) B.pre
  have hts : ∀ w ∈ lw_all, w.before _ s = true := fun w h => hts w (List.mem_cons_of_mem _ h)
  have hown : s.vm.findClass RX4 = some m0.cls := findClass_of_methodNamed B.named
  have hlocks := B.notSynchronized
  have hS : va_S (fun q => q = row) s.heap s.heap [] := va_S.rf
  have hl := lv_entry ([.ref row]) (n := 2) (Nat.le_of_ble_eq_true rfl)
  rw [lg_entry_eq]
  generalize (lg_sl ([.ref row]) ++ List.replicate (2 - (lg_sl ([.ref row])).length) Slot.unset).toArray = ls at hl ⊢
  have hl : lv_has ls 2 [(0, .ref row)] := hl
  refine lv_iconst (v := (nI 0)) hx hb dX4_free_0 (by decide) ?_
  refine lv_istore_n (lv' := [(1, .int (nI 0)), (0, .ref row)]) hx hb dX4_free_1 rfl hl (by decide) rfl (fun ls hl => ?_)
  have lp : ∀ (nn : Nat) (k : Nat), (k ≤ 40) → (40 - k) < nn → ∀ (H : Heap) (locs : List Loc), (xI E row 40 (tkf rw 0 k (-1)) H) → va_S (fun q => q = row) s.heap H locs → ∀ (ls : Array Slot), lv_has ls 2 [(0, .ref row), (1, .int (nI k))] → W P0 l e0 (headSpec (ws_ yX4_free cX4_free 2 none) ({ frames := 1, cells := 0, slots := 0, locals := 40 } : Room)).room s m0 ([.ref row] : List Value).toArray below meth c0 H locs 0 0 (MQ below (xQv (fun q => q = row) (fun H => ∃ r : Nat → Int32, xI E row 40 r H ∧ ∀ k, k < 40 → r k = -1)) ([.ref row] : List Value).toArray s 0 0 (fun q => q = row)) (F0 m0 2 ls []) := by
    intro nn
    induction nn with
    | zero =>
      intro k hk2 hnn
      exact absurd hnn (Nat.not_lt_zero _)
    | succ nn ih =>
      intro k hk2 hnn H locs hR hS ls hl
      refine lv_iload_n hx hb dX4_free_2 rfl (lv_at hl 1 rfl) ?_
      refine lv_bipush (v := (nI 40)) hx hb dX4_free_3 (by decide) ?_
      refine xr_cge (tgt := 18) hx hb dX4_free_5 (by decide) (by omega) (by omega) (fun c_1 => ?_) (fun c_1 => ?_)
      · obtain rfl : 40 = k := by omega
        exact W.vret hx hb hr (fun t ht hW => ⟨⟨rfl, by rw [ht]; exact ⟨_, hR, fun k hk => by unfold tkf; rw [if_pos (by omega)]⟩⟩, hS.F ht⟩) hS.2.2 dX4_free_18
      · refine lv_aload_n hx hb dX4_free_8 rfl (lv_at hl 0 rfl) ?_
        refine lv_iload_n hx hb dX4_free_9 rfl (lv_at hl 1 rfl) ?_
        refine lv_iconst (v := (-1)) hx hb dX4_free_10 (by decide) ?_
        refine xr_iast hx hb hE hS rfl hR (i := k) (by omega) (by omega) dX4_free_11 (fun H_2 L_3 hR hz_4 ho_5 hS => ?_)
        have hR : xI E row 40 (tkf rw 0 (k + 1) (-1)) H_2 := by rw [← (tkf_s rw (Nat.zero_le _) _)]; exact hR
        refine lv_iinc (v := (nI (k + 1))) (lv' := [(1, .int (nI (k + 1))), (0, .ref row)]) hx hb dX4_free_12 hl (k := 1) rfl (nI_add k 1) (by decide) rfl (fun ls hl => ?_)
        refine lv_goto (tgt := 2) hx hb dX4_free_15 (by decide) ?_
        exact ih (k + 1) (by omega) (by omega) _ _ hR hS ls (lv_sub hl [1, 0] rfl)
  exact lp (40 + 1) 0 (by omega) (by omega) _ _ (by rw [tkf_0 rw (Nat.le_refl _)]; exact hR) hS ls (lv_sub hl [1, 0] rfl)

set_option maxHeartbeats 4000000 in
set_option maxRecDepth 100000 in
theorem mt_half (l : Launch) (E : xG) (mo aS aT aW aO : Nat) (tr : Nat → Nat) (th : Int32) (n : Nat) (so : Nat → Nat) (m : Nat) (ts : Nat → Nat → Nat) (sh : Int32) (row : Nat) (rw : Nat → Int32) (hn : n ≤ 40) (hd : ∀ q, xMf mo aS aT tr q → q ≠ row) (hso : ∀ k, so k < 5) (hts9 : ∀ e k, ts e k ≤ 9) : Met l yX4_half (ws_ yX4_half cX4_half 4 none) ({ frames := 4, cells := 0, slots := 0, locals := 160 } : Room) (xPre E (fun q => q = row) [.ref mo, .ref row] (fun H => xM0 E mo aS aT aW aO tr th n so m ts sh H ∧ xI E row 40 rw H)) (xQv (fun q => q = row) (fun H => xI E row 40 (wHalf (tk ts so) n rw) H)) 0 0 (fun q => q = row) := by
  refine Met.ofW (cc := cX4_half) (maxL := 4) (ret := none) (by decide) rfl ?_
  intro P0 e0 s m0 args below meth c0 s₁ B hml hv
  obtain ⟨rfl, hE, hM, hR⟩ := hv
  have hx := B.exec
  have hb := B.bytes
  have hr := B.returns
  have hts := atoms_spec (ws := ws_ yX4_half cX4_half 4 none) B.pre
  have hts : ∀ w ∈ lw_all, w.before _ s = true := fun w h => hts w (List.mem_cons_of_mem _ h)
  have hown : s.vm.findClass RX4 = some m0.cls := findClass_of_methodNamed B.named
  have hlocks := B.notSynchronized
  have hS : va_S (fun q => q = row) s.heap s.heap [] := va_S.rf
  have hl := lv_entry ([.ref mo, .ref row]) (n := 4) (Nat.le_of_ble_eq_true rfl)
  rw [lg_entry_eq]
  generalize (lg_sl ([.ref mo, .ref row]) ++ List.replicate (4 - (lg_sl ([.ref mo, .ref row])).length) Slot.unset).toArray = ls at hl ⊢
  have hl : lv_has ls 4 [(0, .ref mo), (1, .ref row)] := hl
  refine lv_aload_n hx hb dX4_half_0 rfl (lv_at hl 0 rfl) ?_
  refine lv_iconst (v := (nI 0)) hx hb dX4_half_1 (by decide) ?_
  refine lv_iconst (v := (nI 0)) hx hb dX4_half_2 (by decide) ?_
  refine lv_iconst (v := (nI 2)) hx hb dX4_half_3 (by decide) ?_
  refine lv_iconst (v := (nI 0)) hx hb dX4_half_4 (by decide) ?_
  refine xr_ro (va_runV (As := [.int (nI 0), .int (nI 0), .int (nI 2), .int (nI 0)]) (rest := []) ⟨hx, hb, hml, hown, hts⟩ (mt_cut l E (fun q => q = row) mo aS aT aW aO tr th n so m ts sh 0 0 2 0 (by omega) hn (by omega) (by omega) (by omega) hso hts9) (cwV 4 hts (lw_V q868 q870 qs18 q44 q871) rfl rfl rfl (by decide +kernel) ⟨Nat.le_of_ble_eq_true rfl, Nat.le_of_ble_eq_true rfl⟩) ⟨xPre_blind, ((hM).1).recv hE rfl, fun U hU hW => xPre_at hE hS (fun _ h => h) hM hU hW⟩ rfl rfl hl.1 rfl (lv_room (Nat.le_of_ble_eq_true rfl)) dX4_half_5 ⟨(show 0 + 0 ≤ 0 by omega), (show 0 + 0 ≤ 0 by omega)⟩) ?_
  have hz := ct_le (f := tk ts so 0) (n := n) (b := 0) (parts := 2) (part := 0) (Nat.zero_le _)
  generalize hze : ct (tk ts so 0) n 0 2 0 = z at hz ⊢
  refine lv_istore_n (lv' := [(2, .int (nI z)), (0, .ref mo), (1, .ref row)]) hx hb dX4_half_8 rfl hl (by decide) rfl (fun ls hl => ?_)
  refine lv_aload_n hx hb dX4_half_9 rfl (lv_at hl 1 rfl) ?_
  refine lv_iconst (v := (nI 1)) hx hb dX4_half_10 (by decide) ?_
  refine lv_iconst (v := (nI 0)) hx hb dX4_half_11 (by decide) ?_
  refine lv_iload_n hx hb dX4_half_12 rfl (lv_at hl 0 rfl) ?_
  refine xr_ro (va_runV (As := [.int (nI 1), .int (nI 0), .int (nI z)]) (rest := []) ⟨hx, hb, hml, hown, hts⟩ (mt_run l E (fun q => q = row) mo aS aT aW aO tr th n so m ts sh 1 0 z (by omega) (by omega) (by omega) hso) (cwV 3 hts (lw_V q872 q874 qs19 q44 q875) rfl rfl rfl (by decide +kernel) ⟨Nat.le_of_ble_eq_true rfl, Nat.le_of_ble_eq_true rfl⟩) ⟨xPre_blind, ((hM).1).recv hE rfl, fun U hU hW => xPre_at hE hS (fun _ h => h) hM hU hW⟩ rfl rfl hl.1 rfl (lv_room (Nat.le_of_ble_eq_true rfl)) dX4_half_13 ⟨(show 0 + 0 ≤ 0 by omega), (show 0 + 0 ≤ 0 by omega)⟩) ?_
  refine lv_aload_n hx hb dX4_half_16 rfl (lv_at hl 1 rfl) ?_
  refine lv_iconst (v := (nI 1)) hx hb dX4_half_17 (by decide) ?_
  refine lv_iload_n hx hb dX4_half_18 rfl (lv_at hl 0 rfl) ?_
  refine lv_aload_n hx hb dX4_half_19 rfl (lv_at hl 1 rfl) ?_
  refine xr_get hx hb hts in_X4 hown hE ((hM).1) rfl 1 (by decide) (hts _ q788) (fun _ h => h) rfl dX4_half_20 ?_
  refine xr_ro (va_runV (As := [.int (nI 1), .int (nI z), .int (nI n)]) (rest := [.int (nI (rn (tk ts so 1) 0 z))]) ⟨hx, hb, hml, hown, hts⟩ (mt_run l E (fun q => q = row) mo aS aT aW aO tr th n so m ts sh 1 z n (by omega) (by omega) (by omega) hso) (cwV 3 hts (lw_V q872 q874 qs19 q44 q875) rfl rfl rfl (by decide +kernel) ⟨Nat.le_of_ble_eq_true rfl, Nat.le_of_ble_eq_true rfl⟩) ⟨xPre_blind, ((hM).1).recv hE rfl, fun U hU hW => xPre_at hE hS (fun _ h => h) hM hU hW⟩ rfl rfl hl.1 rfl (lv_room (Nat.le_of_ble_eq_true rfl)) dX4_half_23 ⟨(show 0 + 0 ≤ 0 by omega), (show 0 + 0 ≤ 0 by omega)⟩) ?_
  have q1 := rn_9 (f := tk ts so 1) (fun k => hts9 1 (so k)) (a := 0) (b := z) (by omega)
  have q2 := rn_9 (f := tk ts so 1) (fun k => hts9 1 (so k)) (a := z) (b := n) (by omega)
  refine xr_clt (tgt := 33) hx hb dX4_half_26 (by decide) (by omega) (by omega) (fun c2 => ?_) (fun c2 => ?_)
  · refine lv_iconst (v := (nI 0)) hx hb dX4_half_33 (by decide) ?_
    refine lv_istore_n (lv' := [(3, .int (nI 0)), (2, .int (nI z)), (0, .ref mo), (1, .ref row)]) hx hb dX4_half_34 rfl hl (by decide) rfl (fun ls hl => ?_)
    refine lv_aload_n hx hb dX4_half_35 rfl (lv_at hl 3 rfl) ?_
    refine lv_iconst (v := (nI 0)) hx hb dX4_half_36 (by decide) ?_
    refine lv_iload_n hx hb dX4_half_37 rfl (lv_at hl 1 rfl) ?_
    refine lv_iload_n hx hb dX4_half_38 rfl (lv_at hl 0 rfl) ?_
    refine xr_zeq (tgt := 46) hx hb dX4_half_39 (by decide) (by omega) (fun c3 => ?_) (fun c3 => absurd c3 (by omega))
    refine lv_iconst (v := (nI 0)) hx hb dX4_half_46 (by decide) ?_
    refine xr_muv (va_runS (As := [.ref row, .int (nI 0), .int (nI z), .int (nI 0)]) (rest := []) ⟨hx, hb, hml, hown, hts⟩ (mt_take l E row rw 0 z (nI 0) (by omega) (by omega)) (va_cwS 4 hts (lw_S q880 q881 q44 q882) rfl rfl rfl (by decide +kernel) ⟨Nat.le_of_ble_eq_true rfl, Nat.le_of_ble_eq_true rfl⟩) ⟨xPre_blind, fun U hU hW => xPre_at hE hS (fun _ h => h) hR hU hW⟩ rfl rfl hl.1 rfl (lv_room (Nat.le_of_ble_eq_true rfl)) dX4_half_47 ⟨(show 0 + 0 ≤ 0 by omega), (show 0 + 0 ≤ 0 by omega)⟩) hS (fun _ h => h) (fun _ h => h) (fun H_1 L_2 hP_ hz_3 hk_4 hS => ?_)
    have hR := hP_
    have hM := hM.kept (fun q hq => hk_4 q (hM.lt hq) (hd q hq))
    refine lv_aload_n hx hb dX4_half_50 rfl (lv_at hl 3 rfl) ?_
    refine lv_iload_n hx hb dX4_half_51 rfl (lv_at hl 1 rfl) ?_
    refine lv_aload_n hx hb dX4_half_52 rfl (lv_at hl 2 rfl) ?_
    refine xr_get hx hb hts in_X4 hown hE ((hM).1) rfl 1 (by decide) (hts _ q788) (fun _ h => h) rfl dX4_half_53 ?_
    refine lv_iload_n hx hb dX4_half_56 rfl (lv_at hl 0 rfl) ?_
    refine xr_zeq (tgt := 64) hx hb dX4_half_57 (by decide) (by omega) (fun c4 => ?_) (fun c4 => absurd c4 (by omega))
    refine lv_iconst (v := (nI 1)) hx hb dX4_half_64 (by decide) ?_
    refine xr_muv (va_runS (As := [.ref row, .int (nI z), .int (nI n), .int (nI 1)]) (rest := []) ⟨hx, hb, hml, hown, hts⟩ (mt_take l E row (tkf rw 0 z (nI 0)) z n (nI 1) (by omega) (by omega)) (va_cwS 4 hts (lw_S q880 q881 q44 q882) rfl rfl rfl (by decide +kernel) ⟨Nat.le_of_ble_eq_true rfl, Nat.le_of_ble_eq_true rfl⟩) ⟨xPre_blind, fun U hU hW => xPre_at hE hS (fun _ h => h) hR hU hW⟩ rfl rfl hl.1 rfl (lv_room (Nat.le_of_ble_eq_true rfl)) dX4_half_65 ⟨(show 0 + 0 ≤ 0 by omega), (show 0 + 0 ≤ 0 by omega)⟩) hS (fun _ h => h) (fun _ h => h) (fun H_5 L_6 hP_ hz_7 hk_8 hS => ?_)
    have hR := hP_
    exact W.vret hx hb hr (fun t ht hW => ⟨⟨rfl, by rw [ht]; exact (by unfold wHalf; rw [hze, if_neg (by omega)]; exact hR)⟩, hS.F ht⟩) hS.2.2 dX4_half_68
  · refine lv_iconst (v := (nI 1)) hx hb dX4_half_29 (by decide) ?_
    refine lv_goto (tgt := 34) hx hb dX4_half_30 (by decide) ?_
    refine lv_istore_n (lv' := [(3, .int (nI 1)), (2, .int (nI z)), (0, .ref mo), (1, .ref row)]) hx hb dX4_half_34 rfl hl (by decide) rfl (fun ls hl => ?_)
    refine lv_aload_n hx hb dX4_half_35 rfl (lv_at hl 3 rfl) ?_
    refine lv_iconst (v := (nI 0)) hx hb dX4_half_36 (by decide) ?_
    refine lv_iload_n hx hb dX4_half_37 rfl (lv_at hl 1 rfl) ?_
    refine lv_iload_n hx hb dX4_half_38 rfl (lv_at hl 0 rfl) ?_
    refine xr_zeq (tgt := 46) hx hb dX4_half_39 (by decide) (by omega) (fun c3 => absurd c3 (by omega)) (fun c3 => ?_)
    refine lv_iconst (v := (nI 1)) hx hb dX4_half_42 (by decide) ?_
    refine lv_goto (tgt := 47) hx hb dX4_half_43 (by decide) ?_
    refine xr_muv (va_runS (As := [.ref row, .int (nI 0), .int (nI z), .int (nI 1)]) (rest := []) ⟨hx, hb, hml, hown, hts⟩ (mt_take l E row rw 0 z (nI 1) (by omega) (by omega)) (va_cwS 4 hts (lw_S q880 q881 q44 q882) rfl rfl rfl (by decide +kernel) ⟨Nat.le_of_ble_eq_true rfl, Nat.le_of_ble_eq_true rfl⟩) ⟨xPre_blind, fun U hU hW => xPre_at hE hS (fun _ h => h) hR hU hW⟩ rfl rfl hl.1 rfl (lv_room (Nat.le_of_ble_eq_true rfl)) dX4_half_47 ⟨(show 0 + 0 ≤ 0 by omega), (show 0 + 0 ≤ 0 by omega)⟩) hS (fun _ h => h) (fun _ h => h) (fun H_9 L_10 hP_ hz_11 hk_12 hS => ?_)
    have hR := hP_
    have hM := hM.kept (fun q hq => hk_12 q (hM.lt hq) (hd q hq))
    refine lv_aload_n hx hb dX4_half_50 rfl (lv_at hl 3 rfl) ?_
    refine lv_iload_n hx hb dX4_half_51 rfl (lv_at hl 1 rfl) ?_
    refine lv_aload_n hx hb dX4_half_52 rfl (lv_at hl 2 rfl) ?_
    refine xr_get hx hb hts in_X4 hown hE ((hM).1) rfl 1 (by decide) (hts _ q788) (fun _ h => h) rfl dX4_half_53 ?_
    refine lv_iload_n hx hb dX4_half_56 rfl (lv_at hl 0 rfl) ?_
    refine xr_zeq (tgt := 64) hx hb dX4_half_57 (by decide) (by omega) (fun c4 => absurd c4 (by omega)) (fun c4 => ?_)
    refine lv_iconst (v := (nI 0)) hx hb dX4_half_60 (by decide) ?_
    refine lv_goto (tgt := 65) hx hb dX4_half_61 (by decide) ?_
    refine xr_muv (va_runS (As := [.ref row, .int (nI z), .int (nI n), .int (nI 0)]) (rest := []) ⟨hx, hb, hml, hown, hts⟩ (mt_take l E row (tkf rw 0 z (nI 1)) z n (nI 0) (by omega) (by omega)) (va_cwS 4 hts (lw_S q880 q881 q44 q882) rfl rfl rfl (by decide +kernel) ⟨Nat.le_of_ble_eq_true rfl, Nat.le_of_ble_eq_true rfl⟩) ⟨xPre_blind, fun U hU hW => xPre_at hE hS (fun _ h => h) hR hU hW⟩ rfl rfl hl.1 rfl (lv_room (Nat.le_of_ble_eq_true rfl)) dX4_half_65 ⟨(show 0 + 0 ≤ 0 by omega), (show 0 + 0 ≤ 0 by omega)⟩) hS (fun _ h => h) (fun _ h => h) (fun H_13 L_14 hP_ hz_15 hk_16 hS => ?_)
    have hR := hP_
    exact W.vret hx hb hr (fun t ht hW => ⟨⟨rfl, by rw [ht]; exact (by unfold wHalf; rw [hze, if_pos (by omega)]; exact hR)⟩, hS.F ht⟩) hS.2.2 dX4_half_68
