set_option maxHeartbeats 4000000 in
set_option maxRecDepth 100000 in
theorem mt_isBetter (l : Launch) (E : xG) (A : Nat → Prop) (mo aS aT aW aO : Nat) (tr : Nat → Nat) (th : Int32) (n : Nat) (so : Nat → Nat) (m : Nat) (ts : Nat → Nat → Nat) (sh : Int32) (ow : Nat → Int32) (a b : Nat) (ha : a < 5) (hb5 : b < 5) (hn : n ≤ 40) (hso : ∀ k, so k < 5) (hts9 : ∀ e k, ts e k ≤ 9) : Met l yX4_isBetter (ws_ yX4_isBetter cX4_isBetter 3 (some .boolean)) ({ frames := 3, cells := 0, slots := 0, locals := 120 } : Room) (xPre E A [.ref mo, .int (nI a), .int (nI b)] (fun H => xM0 E mo aS aT aW aO tr th n so m ts sh H ∧ xI E aW 40 ow H)) (xRo (.int (nI (btrN (tk ts so) ow n a b)))) 0 0 (fun _ => False) := by
  refine Met.ofW (cc := cX4_isBetter) (maxL := 3) (ret := (some .boolean)) (by decide) rfl ?_
  intro P0 e0 s m0 args below meth c0 s₁ B hml hv
  obtain ⟨rfl, hE, hM, hR⟩ := hv
  have hx := B.exec
  have hb := B.bytes
  have hr := B.returns
  have hts := atoms_spec (ws := ws_ yX4_isBetter cX4_isBetter 3 (some .boolean)) B.pre
  have hts : ∀ w ∈ lw_all, w.before _ s = true := fun w h => hts w (List.mem_cons_of_mem _ h)
  have hown : s.vm.findClass RX4 = some m0.cls := findClass_of_methodNamed B.named
  have hlocks := B.notSynchronized
  have hS : va_S A s.heap s.heap [] := va_S.rf
  have hl := lv_entry ([.ref mo, .int (nI a), .int (nI b)]) (n := 3) (Nat.le_of_ble_eq_true rfl)
  rw [lg_entry_eq]
  generalize (lg_sl ([.ref mo, .int (nI a), .int (nI b)]) ++ List.replicate (3 - (lg_sl ([.ref mo, .int (nI a), .int (nI b)])).length) Slot.unset).toArray = ls at hl ⊢
  have hl : lv_has ls 3 [(0, .ref mo), (1, .int (nI a)), (2, .int (nI b))] := hl
  refine lv_aload_n hx hb dX4_isBetter_0 rfl (lv_at hl 0 rfl) ?_
  refine lv_aload_n hx hb dX4_isBetter_1 rfl (lv_at hl 0 rfl) ?_
  refine xr_get hx hb hts in_X4 hown hE ((hM).1) rfl 6 (by decide) (hts _ q793) (fun _ h => h) rfl dX4_isBetter_2 ?_
  refine lv_iload_n hx hb dX4_isBetter_5 rfl (lv_at hl 1 rfl) ?_
  refine lv_iload_n hx hb dX4_isBetter_6 rfl (lv_at hl 2 rfl) ?_
  refine xr_ro (va_runV (As := [.ref aW, .int (nI a), .int (nI b)]) (rest := []) ⟨hx, hb, hml, hown, hts⟩ (mt_worth l E A mo aS aT aW aO tr th n so m ts sh aW ow a (nI b) (by omega) hn hso) (cwV 3 hts (lw_V q908 q910 qs25 q44 q911) rfl rfl rfl (by decide +kernel) ⟨Nat.le_of_ble_eq_true rfl, Nat.le_of_ble_eq_true rfl⟩) ⟨xPre_blind, ((hM).1).recv hE rfl, fun U hU hW => xPre_at hE hS (fun _ h => h) (⟨hM, hR⟩) hU hW⟩ rfl rfl hl.1 rfl (lv_room (Nat.le_of_ble_eq_true rfl)) dX4_isBetter_7 ⟨(show 0 + 0 ≤ 0 by omega), (show 0 + 0 ≤ 0 by omega)⟩) ?_
  refine lv_aload_n hx hb dX4_isBetter_10 rfl (lv_at hl 0 rfl) ?_
  refine lv_aload_n hx hb dX4_isBetter_11 rfl (lv_at hl 0 rfl) ?_
  refine xr_get hx hb hts in_X4 hown hE ((hM).1) rfl 6 (by decide) (hts _ q793) (fun _ h => h) rfl dX4_isBetter_12 ?_
  refine lv_iload_n hx hb dX4_isBetter_15 rfl (lv_at hl 1 rfl) ?_
  refine lv_iload_n hx hb dX4_isBetter_16 rfl (lv_at hl 1 rfl) ?_
  refine xr_ro (va_runV (As := [.ref aW, .int (nI a), .int (nI a)]) (rest := [.int (nI (wo (tk ts so a) ow (nI b) n))]) ⟨hx, hb, hml, hown, hts⟩ (mt_worth l E A mo aS aT aW aO tr th n so m ts sh aW ow a (nI a) (by omega) hn hso) (cwV 3 hts (lw_V q908 q910 qs25 q44 q911) rfl rfl rfl (by decide +kernel) ⟨Nat.le_of_ble_eq_true rfl, Nat.le_of_ble_eq_true rfl⟩) ⟨xPre_blind, ((hM).1).recv hE rfl, fun U hU hW => xPre_at hE hS (fun _ h => h) (⟨hM, hR⟩) hU hW⟩ rfl rfl hl.1 rfl (lv_room (Nat.le_of_ble_eq_true rfl)) dX4_isBetter_17 ⟨(show 0 + 0 ≤ 0 by omega), (show 0 + 0 ≤ 0 by omega)⟩) ?_
  have q1 := wo_9 (f := tk ts so a) (fun k => hts9 a (so k)) (ow := ow) (v := nI b) hn
  have q2 := wo_9 (f := tk ts so a) (fun k => hts9 a (so k)) (ow := ow) (v := nI a) hn
  have q3 := wo_9 (f := tk ts so b) (fun k => hts9 b (so k)) (ow := ow) (v := nI a) hn
  have q4 := wo_9 (f := tk ts so b) (fun k => hts9 b (so k)) (ow := ow) (v := nI b) hn
  refine xr_cle (tgt := 50) hx hb dX4_isBetter_20 (by decide) (by omega) (by omega) (fun c_1 => ?_) (fun c_1 => ?_)
  · refine lv_iconst (v := (nI 0)) hx hb dX4_isBetter_50 (by decide) ?_
    refine xr_ti (x := (nI 0)) (y := (nI (btrN (tk ts so) ow n a b))) (by unfold btrN; rw [if_neg (by omega)]) ?_
    exact W.zret hx hb hr (by unfold btrN; split <;> rfl) (fun t ht hW => ⟨rfl, ht⟩) (fun q h => by cases h) dX4_isBetter_51
  · refine lv_aload_n hx hb dX4_isBetter_23 rfl (lv_at hl 0 rfl) ?_
    refine lv_aload_n hx hb dX4_isBetter_24 rfl (lv_at hl 0 rfl) ?_
    refine xr_get hx hb hts in_X4 hown hE ((hM).1) rfl 6 (by decide) (hts _ q793) (fun _ h => h) rfl dX4_isBetter_25 ?_
    refine lv_iload_n hx hb dX4_isBetter_28 rfl (lv_at hl 2 rfl) ?_
    refine lv_iload_n hx hb dX4_isBetter_29 rfl (lv_at hl 1 rfl) ?_
    refine xr_ro (va_runV (As := [.ref aW, .int (nI b), .int (nI a)]) (rest := []) ⟨hx, hb, hml, hown, hts⟩ (mt_worth l E A mo aS aT aW aO tr th n so m ts sh aW ow b (nI a) (by omega) hn hso) (cwV 3 hts (lw_V q908 q910 qs25 q44 q911) rfl rfl rfl (by decide +kernel) ⟨Nat.le_of_ble_eq_true rfl, Nat.le_of_ble_eq_true rfl⟩) ⟨xPre_blind, ((hM).1).recv hE rfl, fun U hU hW => xPre_at hE hS (fun _ h => h) (⟨hM, hR⟩) hU hW⟩ rfl rfl hl.1 rfl (lv_room (Nat.le_of_ble_eq_true rfl)) dX4_isBetter_30 ⟨(show 0 + 0 ≤ 0 by omega), (show 0 + 0 ≤ 0 by omega)⟩) ?_
    refine lv_aload_n hx hb dX4_isBetter_33 rfl (lv_at hl 0 rfl) ?_
    refine lv_aload_n hx hb dX4_isBetter_34 rfl (lv_at hl 0 rfl) ?_
    refine xr_get hx hb hts in_X4 hown hE ((hM).1) rfl 6 (by decide) (hts _ q793) (fun _ h => h) rfl dX4_isBetter_35 ?_
    refine lv_iload_n hx hb dX4_isBetter_38 rfl (lv_at hl 2 rfl) ?_
    refine lv_iload_n hx hb dX4_isBetter_39 rfl (lv_at hl 2 rfl) ?_
    refine xr_ro (va_runV (As := [.ref aW, .int (nI b), .int (nI b)]) (rest := [.int (nI (wo (tk ts so b) ow (nI a) n))]) ⟨hx, hb, hml, hown, hts⟩ (mt_worth l E A mo aS aT aW aO tr th n so m ts sh aW ow b (nI b) (by omega) hn hso) (cwV 3 hts (lw_V q908 q910 qs25 q44 q911) rfl rfl rfl (by decide +kernel) ⟨Nat.le_of_ble_eq_true rfl, Nat.le_of_ble_eq_true rfl⟩) ⟨xPre_blind, ((hM).1).recv hE rfl, fun U hU hW => xPre_at hE hS (fun _ h => h) (⟨hM, hR⟩) hU hW⟩ rfl rfl hl.1 rfl (lv_room (Nat.le_of_ble_eq_true rfl)) dX4_isBetter_40 ⟨(show 0 + 0 ≤ 0 by omega), (show 0 + 0 ≤ 0 by omega)⟩) ?_
    refine xr_cle (tgt := 50) hx hb dX4_isBetter_43 (by decide) (by omega) (by omega) (fun c_2 => ?_) (fun c_2 => ?_)
    · refine lv_iconst (v := (nI 0)) hx hb dX4_isBetter_50 (by decide) ?_
      refine xr_ti (x := (nI 0)) (y := (nI (btrN (tk ts so) ow n a b))) (by unfold btrN; rw [if_neg (by omega)]) ?_
      exact W.zret hx hb hr (by unfold btrN; split <;> rfl) (fun t ht hW => ⟨rfl, ht⟩) (fun q h => by cases h) dX4_isBetter_51
    · refine lv_iconst (v := (nI 1)) hx hb dX4_isBetter_46 (by decide) ?_
      refine lv_goto (tgt := 51) hx hb dX4_isBetter_47 (by decide) ?_
      refine xr_ti (x := (nI 1)) (y := (nI (btrN (tk ts so) ow n a b))) (by unfold btrN; rw [if_pos (by omega)]) ?_
      exact W.zret hx hb hr (by unfold btrN; split <;> rfl) (fun t ht hW => ⟨rfl, ht⟩) (fun q h => by cases h) dX4_isBetter_51

set_option maxHeartbeats 4000000 in
set_option maxRecDepth 100000 in
theorem mt_isFair (l : Launch) (E : xG) (A : Nat → Prop) (mo aS aT aW aO : Nat) (tr : Nat → Nat) (th : Int32) (n : Nat) (so : Nat → Nat) (m : Nat) (ts : Nat → Nat → Nat) (sh : Int32) (ow : Nat → Int32) (e : Nat) (he : e < 5) (hn : n ≤ 40) (hm : m ≤ 5) (hso : ∀ k, so k < 5) (hts9 : ∀ e k, ts e k ≤ 9) : Met l yX4_isFair (ws_ yX4_isFair cX4_isFair 2 (some .boolean)) ({ frames := 3, cells := 0, slots := 0, locals := 120 } : Room) (xPre E A [.ref mo, .int (nI e)] (fun H => xM0 E mo aS aT aW aO tr th n so m ts sh H ∧ xI E aW 40 ow H)) (xRo (.int (nI (fairN (tk ts so) ow n m e)))) 0 0 (fun _ => False) := by
  refine Met.ofW (cc := cX4_isFair) (maxL := 2) (ret := (some .boolean)) (by decide) rfl ?_
  intro P0 e0 s m0 args below meth c0 s₁ B hml hv
  obtain ⟨rfl, hE, hM, hR⟩ := hv
  have hx := B.exec
  have hb := B.bytes
  have hr := B.returns
  have hts := atoms_spec (ws := ws_ yX4_isFair cX4_isFair 2 (some .boolean)) B.pre
  have hts : ∀ w ∈ lw_all, w.before _ s = true := fun w h => hts w (List.mem_cons_of_mem _ h)
  have hown : s.vm.findClass RX4 = some m0.cls := findClass_of_methodNamed B.named
  have hlocks := B.notSynchronized
  have hS : va_S A s.heap s.heap [] := va_S.rf
  have hl := lv_entry ([.ref mo, .int (nI e)]) (n := 2) (Nat.le_of_ble_eq_true rfl)
  rw [lg_entry_eq]
  generalize (lg_sl ([.ref mo, .int (nI e)]) ++ List.replicate (2 - (lg_sl ([.ref mo, .int (nI e)])).length) Slot.unset).toArray = ls at hl ⊢
  have hl : lv_has ls 2 [(0, .ref mo), (1, .int (nI e))] := hl
  refine lv_aload_n hx hb dX4_isFair_0 rfl (lv_at hl 0 rfl) ?_
  refine lv_aload_n hx hb dX4_isFair_1 rfl (lv_at hl 0 rfl) ?_
  refine xr_get hx hb hts in_X4 hown hE ((hM).1) rfl 6 (by decide) (hts _ q793) (fun _ h => h) rfl dX4_isFair_2 ?_
  refine lv_iload_n hx hb dX4_isFair_5 rfl (lv_at hl 1 rfl) ?_
  refine lv_iload_n hx hb dX4_isFair_6 rfl (lv_at hl 1 rfl) ?_
  refine xr_ro (va_runV (As := [.ref aW, .int (nI e), .int (nI e)]) (rest := []) ⟨hx, hb, hml, hown, hts⟩ (mt_worth l E A mo aS aT aW aO tr th n so m ts sh aW ow e (nI e) (by omega) hn hso) (cwV 3 hts (lw_V q908 q910 qs25 q44 q911) rfl rfl rfl (by decide +kernel) ⟨Nat.le_of_ble_eq_true rfl, Nat.le_of_ble_eq_true rfl⟩) ⟨xPre_blind, ((hM).1).recv hE rfl, fun U hU hW => xPre_at hE hS (fun _ h => h) (⟨hM, hR⟩) hU hW⟩ rfl rfl hl.1 rfl (lv_room (Nat.le_of_ble_eq_true rfl)) dX4_isFair_7 ⟨(show 0 + 0 ≤ 0 by omega), (show 0 + 0 ≤ 0 by omega)⟩) ?_
  refine lv_aload_n hx hb dX4_isFair_10 rfl (lv_at hl 0 rfl) ?_
  refine xr_get hx hb hts in_X4 hown hE ((hM).1) rfl 3 (by decide) (hts _ q790) (fun _ h => h) rfl dX4_isFair_11 ?_
  refine xr_imul hx hb dX4_isFair_14 ?_
  refine lv_aload_n hx hb dX4_isFair_15 rfl (lv_at hl 0 rfl) ?_
  refine lv_iload_n hx hb dX4_isFair_16 rfl (lv_at hl 1 rfl) ?_
  refine lv_iconst (v := (nI 0)) hx hb dX4_isFair_17 (by decide) ?_
  refine lv_aload_n hx hb dX4_isFair_18 rfl (lv_at hl 0 rfl) ?_
  refine xr_get hx hb hts in_X4 hown hE ((hM).1) rfl 1 (by decide) (hts _ q788) (fun _ h => h) rfl dX4_isFair_19 ?_
  refine xr_ro (va_runV (As := [.int (nI e), .int (nI 0), .int (nI n)]) (rest := [.int (nI ((wo (tk ts so e) ow (nI e) n) * m))]) ⟨hx, hb, hml, hown, hts⟩ (mt_run l E A mo aS aT aW aO tr th n so m ts sh e 0 n (by omega) hn (by omega) hso) (cwV 3 hts (lw_V q872 q874 qs19 q44 q875) rfl rfl rfl (by decide +kernel) ⟨Nat.le_of_ble_eq_true rfl, Nat.le_of_ble_eq_true rfl⟩) ⟨xPre_blind, ((hM).1).recv hE rfl, fun U hU hW => xPre_at hE hS (fun _ h => h) hM hU hW⟩ rfl rfl hl.1 rfl (lv_room (Nat.le_of_ble_eq_true rfl)) dX4_isFair_22 ⟨(show 0 + 0 ≤ 0 by omega), (show 0 + 0 ≤ 0 by omega)⟩) ?_
  have q1 := wo_9 (f := tk ts so e) (fun k => hts9 e (so k)) (ow := ow) (v := nI e) hn
  have q2 := rn_9 (f := tk ts so e) (fun k => hts9 e (so k)) (a := 0) hn
  have q3 : wo (tk ts so e) ow (nI e) n * m ≤ 360 * 5 := Nat.mul_le_mul q1 hm
  refine xr_clt (tgt := 32) hx hb dX4_isFair_25 (by decide) (by omega) (by omega) (fun c_1 => ?_) (fun c_1 => ?_)
  · refine lv_iconst (v := (nI 0)) hx hb dX4_isFair_32 (by decide) ?_
    refine xr_ti (x := (nI 0)) (y := (nI (fairN (tk ts so) ow n m e))) (by unfold fairN; rw [if_neg (by omega)]) ?_
    exact W.zret hx hb hr (by unfold fairN; split <;> rfl) (fun t ht hW => ⟨rfl, ht⟩) (fun q h => by cases h) dX4_isFair_33
  · refine lv_iconst (v := (nI 1)) hx hb dX4_isFair_28 (by decide) ?_
    refine lv_goto (tgt := 33) hx hb dX4_isFair_29 (by decide) ?_
    refine xr_ti (x := (nI 1)) (y := (nI (fairN (tk ts so) ow n m e))) (by unfold fairN; rw [if_pos (by omega)]) ?_
    exact W.zret hx hb hr (by unfold fairN; split <;> rfl) (fun t ht hW => ⟨rfl, ht⟩) (fun q h => by cases h) dX4_isFair_33

set_option maxHeartbeats 4000000 in
set_option maxRecDepth 100000 in
theorem mt_eaterTold (l : Launch) (E : xG) (mo aS aT aW aO : Nat) (tr : Nat → Nat) (th : Int32) (n : Nat) (so : Nat → Nat) (m : Nat) (ts : Nat → Nat → Nat) (sh : Int32) (ow : Nat → Int32) (sz e what : Nat) (he : e < 5) (hw : what < 6) (hn : n ≤ 40) (hm : m ≤ 5) (hso : ∀ k, so k < 5) (hts9 : ∀ e k, ts e k ≤ 9) : Met l yX4_eaterTold (ws_ yX4_eaterTold cX4_eaterTold 6 (some .int)) ({ frames := 4, cells := 1, slots := 6, locals := 160 } : Room) (xPre E (fun q => sz ≤ q) [.ref mo, .int (nI e), .int (nI what)] (fun H => H.size = sz ∧ xM0 E mo aS aT aW aO tr th n so m ts sh H ∧ xI E aW 40 ow H)) (xQ (fun q => sz ≤ q) (fun v _ => v = .int (nI (tld (tk ts so) ow n m e what)))) 1 6 (fun q => sz ≤ q) := by
  refine Met.ofW (cc := cX4_eaterTold) (maxL := 6) (ret := (some .int)) (by decide) rfl ?_
  intro P0 e0 s m0 args below meth c0 s₁ B hml hv
  obtain ⟨rfl, hE, hsz, hM, hR⟩ := hv
  have hx := B.exec
  have hb := B.bytes
  have hr := B.returns
  have hts := atoms_spec (ws := ws_ yX4_eaterTold cX4_eaterTold 6 (some .int)) B.pre
  have hts : ∀ w ∈ lw_all, w.before _ s = true := fun w h => hts w (List.mem_cons_of_mem _ h)
  have hown : s.vm.findClass RX4 = some m0.cls := findClass_of_methodNamed B.named
  have hlocks := B.notSynchronized
  have hS : va_S (fun q => sz ≤ q) s.heap s.heap [] := va_S.rf
  have hl := lv_entry ([.ref mo, .int (nI e), .int (nI what)]) (n := 6) (Nat.le_of_ble_eq_true rfl)
  rw [lg_entry_eq]
  generalize (lg_sl ([.ref mo, .int (nI e), .int (nI what)]) ++ List.replicate (6 - (lg_sl ([.ref mo, .int (nI e), .int (nI what)])).length) Slot.unset).toArray = ls at hl ⊢
  have hl : lv_has ls 6 [(0, .ref mo), (1, .int (nI e)), (2, .int (nI what))] := hl
  refine lv_iconst (v := (nI 0)) hx hb dX4_eaterTold_0 (by decide) ?_
  refine lv_istore_n (lv' := [(3, .int (nI 0)), (0, .ref mo), (1, .int (nI e)), (2, .int (nI what))]) hx hb dX4_eaterTold_1 rfl hl (by decide) rfl (fun ls hl => ?_)
  refine lv_iconst (v := (nI 0)) hx hb dX4_eaterTold_2 (by decide) ?_
  refine lv_istore (lv' := [(4, .int (nI 0)), (3, .int (nI 0)), (0, .ref mo), (1, .int (nI e)), (2, .int (nI what))]) hx hb dX4_eaterTold_3 hl (by decide) rfl (fun ls hl => ?_)
  refine lv_iconst (v := (nI 0)) hx hb dX4_eaterTold_5 (by decide) ?_
  refine lv_istore (lv' := [(5, .int (nI 0)), (4, .int (nI 0)), (3, .int (nI 0)), (0, .ref mo), (1, .int (nI e)), (2, .int (nI what))]) hx hb dX4_eaterTold_6 hl (by decide) rfl (fun ls hl => ?_)
  have lp : ∀ (nn : Nat) (o : Nat), (o ≤ m) → (m - o) < nn → ∀ (ls : Array Slot), lv_has ls 6 [(0, .ref mo), (1, .int (nI e)), (2, .int (nI what)), (3, .int (nI (sm (fun o => if 0 < ey (tk ts so) ow n e o then 1 else 0) o))), (4, .int (nI (mx (fun o => ey (tk ts so) ow n e o) o))), (5, .int (nI o))] → W P0 l e0 (headSpec (ws_ yX4_eaterTold cX4_eaterTold 6 (some .int)) ({ frames := 4, cells := 1, slots := 6, locals := 160 } : Room)).room s m0 ([.ref mo, .int (nI e), .int (nI what)] : List Value).toArray below meth c0 s.heap ([]) 0 0 (MQ below (xQ (fun q => sz ≤ q) (fun v _ => v = .int (nI (tld (tk ts so) ow n m e what)))) ([.ref mo, .int (nI e), .int (nI what)] : List Value).toArray s 1 6 (fun q => sz ≤ q)) (F0 m0 8 ls []) := by
    intro nn
    induction nn with
    | zero =>
      intro o ho1 hnn
      exact absurd hnn (Nat.not_lt_zero _)
    | succ nn ih =>
      intro o ho1 hnn ls hl
      refine lv_iload hx hb dX4_eaterTold_8 (lv_at hl 5 rfl) ?_
      refine lv_aload_n hx hb dX4_eaterTold_10 rfl (lv_at hl 0 rfl) ?_
      refine xr_get hx hb hts in_X4 hown hE ((hM).1) rfl 3 (by decide) (hts _ q790) (fun _ h => h) rfl dX4_eaterTold_11 ?_
      refine xr_cge (tgt := 63) hx hb dX4_eaterTold_14 (by decide) (by omega) (by omega) (fun c_1 => ?_) (fun c_1 => ?_)
      · obtain rfl : m = o := by omega
        refine lv_bipush (v := (nI 6)) hx hb dX4_eaterTold_63 (by decide) ?_
        have hRl := hR.lt
        have hM0 := hM
        refine xr_newi hx hb (hts _ q680) hE hS (n := 6) (by omega) (show 0 + 1 ≤ 1 by omega) (show 0 + 6 ≤ 6 by omega) dX4_eaterTold_65 (fun na H_2 ena hA_ hz_3 ho_4 hS => ?_)
        have hM := hM.kept (fun q hq => ho_4 q (hM.lt hq))
        have hR := hR.kept (ho_4 _ hR.lt)
        have nM : ∀ q, xMf mo aS aT tr q → q ≠ na := fun q hq => by have := hM0.lt hq; omega
        have nR : aW ≠ na := by omega
        have nz : sz ≤ na := by omega
        refine lv_dup hx hb dX4_eaterTold_67 rfl ?_
        refine lv_iconst (v := (nI 0)) hx hb dX4_eaterTold_68 (by decide) ?_
        refine lv_aload_n hx hb dX4_eaterTold_69 rfl (lv_at hl 0 rfl) ?_
        refine xr_get hx hb hts in_X4 hown hE ((hM).1) rfl 6 (by decide) (hts _ q793) (fun _ h => h) rfl dX4_eaterTold_70 ?_
        refine lv_aload_n hx hb dX4_eaterTold_73 rfl (lv_at hl 0 rfl) ?_
        refine xr_get hx hb hts in_X4 hown hE ((hM).1) rfl 1 (by decide) (hts _ q788) (fun _ h => h) rfl dX4_eaterTold_74 ?_
        refine lv_iload_n hx hb dX4_eaterTold_77 rfl (lv_at hl 1 rfl) ?_
        refine xr_ro (va_runS (As := [.ref aW, .int (nI n), .int (nI e)]) (rest := [.int (nI 0), .ref na, .ref na]) ⟨hx, hb, hml, hown, hts⟩ (mt_many l E (fun q => sz ≤ q) aW ow n (nI e) hn) (va_cwS 3 hts (lw_S q896 q897 q44 q898) rfl rfl rfl (by decide +kernel) ⟨Nat.le_of_ble_eq_true rfl, Nat.le_of_ble_eq_true rfl⟩) ⟨xPre_blind, fun U hU hW => xPre_at hE hS (fun _ h => h) hR hU hW⟩ rfl rfl hl.1 rfl (lv_room (Nat.le_of_ble_eq_true rfl)) dX4_eaterTold_78 ⟨(show 1 + 0 ≤ 1 by omega), (show 6 + 0 ≤ 6 by omega)⟩) ?_
        refine xr_iast hx hb hE hS nz hA_ (i := 0) (by omega) (by omega) dX4_eaterTold_81 (fun H_5 L_6 hA_ hz_7 ho_8 hS => ?_)
        have hM := hM.kept (fun q hq => ho_8 q (nM q hq))
        have hR := hR.kept (ho_8 _ nR)
        refine lv_dup hx hb dX4_eaterTold_82 rfl ?_
        refine lv_iconst (v := (nI 1)) hx hb dX4_eaterTold_83 (by decide) ?_
        refine lv_aload_n hx hb dX4_eaterTold_84 rfl (lv_at hl 0 rfl) ?_
        refine lv_aload_n hx hb dX4_eaterTold_85 rfl (lv_at hl 0 rfl) ?_
        refine xr_get hx hb hts in_X4 hown hE ((hM).1) rfl 6 (by decide) (hts _ q793) (fun _ h => h) rfl dX4_eaterTold_86 ?_
        refine lv_iload_n hx hb dX4_eaterTold_89 rfl (lv_at hl 1 rfl) ?_
        refine lv_iload_n hx hb dX4_eaterTold_90 rfl (lv_at hl 1 rfl) ?_
        refine xr_ro (va_runV (As := [.ref aW, .int (nI e), .int (nI e)]) (rest := [.int (nI 1), .ref na, .ref na]) ⟨hx, hb, hml, hown, hts⟩ (mt_worth l E (fun q => sz ≤ q) mo aS aT aW aO tr th n so m ts sh aW ow e (nI e) (by omega) hn hso) (cwV 3 hts (lw_V q908 q910 qs25 q44 q911) rfl rfl rfl (by decide +kernel) ⟨Nat.le_of_ble_eq_true rfl, Nat.le_of_ble_eq_true rfl⟩) ⟨xPre_blind, ((hM).1).recv hE rfl, fun U hU hW => xPre_at hE hS (fun _ h => h) (⟨hM, hR⟩) hU hW⟩ rfl rfl hl.1 rfl (lv_room (Nat.le_of_ble_eq_true rfl)) dX4_eaterTold_91 ⟨(show 1 + 0 ≤ 1 by omega), (show 6 + 0 ≤ 6 by omega)⟩) ?_
        refine xr_iast hx hb hE hS nz hA_ (i := 1) (by omega) (by omega) dX4_eaterTold_94 (fun H_9 L_10 hA_ hz_11 ho_12 hS => ?_)
        have hM := hM.kept (fun q hq => ho_12 q (nM q hq))
        have hR := hR.kept (ho_12 _ nR)
        refine lv_dup hx hb dX4_eaterTold_95 rfl ?_
        refine lv_iconst (v := (nI 2)) hx hb dX4_eaterTold_96 (by decide) ?_
        refine lv_aload_n hx hb dX4_eaterTold_97 rfl (lv_at hl 0 rfl) ?_
        refine lv_iload_n hx hb dX4_eaterTold_98 rfl (lv_at hl 1 rfl) ?_
        refine lv_iconst (v := (nI 0)) hx hb dX4_eaterTold_99 (by decide) ?_
        refine lv_aload_n hx hb dX4_eaterTold_100 rfl (lv_at hl 0 rfl) ?_
        refine xr_get hx hb hts in_X4 hown hE ((hM).1) rfl 1 (by decide) (hts _ q788) (fun _ h => h) rfl dX4_eaterTold_101 ?_
        refine xr_ro (va_runV (As := [.int (nI e), .int (nI 0), .int (nI n)]) (rest := [.int (nI 2), .ref na, .ref na]) ⟨hx, hb, hml, hown, hts⟩ (mt_run l E (fun q => sz ≤ q) mo aS aT aW aO tr th n so m ts sh e 0 n he hn (by omega) hso) (cwV 3 hts (lw_V q872 q874 qs19 q44 q875) rfl rfl rfl (by decide +kernel) ⟨Nat.le_of_ble_eq_true rfl, Nat.le_of_ble_eq_true rfl⟩) ⟨xPre_blind, ((hM).1).recv hE rfl, fun U hU hW => xPre_at hE hS (fun _ h => h) hM hU hW⟩ rfl rfl hl.1 rfl (lv_room (Nat.le_of_ble_eq_true rfl)) dX4_eaterTold_104 ⟨(show 1 + 0 ≤ 1 by omega), (show 6 + 0 ≤ 6 by omega)⟩) ?_
        refine xr_iast hx hb hE hS nz hA_ (i := 2) (by omega) (by omega) dX4_eaterTold_107 (fun H_13 L_14 hA_ hz_15 ho_16 hS => ?_)
        have hM := hM.kept (fun q hq => ho_16 q (nM q hq))
        have hR := hR.kept (ho_16 _ nR)
        refine lv_dup hx hb dX4_eaterTold_108 rfl ?_
        refine lv_iconst (v := (nI 3)) hx hb dX4_eaterTold_109 (by decide) ?_
        refine lv_iload_n hx hb dX4_eaterTold_110 rfl (lv_at hl 3 rfl) ?_
        refine xr_iast hx hb hE hS nz hA_ (i := 3) (by omega) (by omega) dX4_eaterTold_111 (fun H_17 L_18 hA_ hz_19 ho_20 hS => ?_)
        have hM := hM.kept (fun q hq => ho_20 q (nM q hq))
        have hR := hR.kept (ho_20 _ nR)
        refine lv_dup hx hb dX4_eaterTold_112 rfl ?_
        refine lv_iconst (v := (nI 4)) hx hb dX4_eaterTold_113 (by decide) ?_
        refine lv_iload hx hb dX4_eaterTold_114 (lv_at hl 4 rfl) ?_
        refine xr_iast hx hb hE hS nz hA_ (i := 4) (by omega) (by omega) dX4_eaterTold_116 (fun H_21 L_22 hA_ hz_23 ho_24 hS => ?_)
        have hM := hM.kept (fun q hq => ho_24 q (nM q hq))
        have hR := hR.kept (ho_24 _ nR)
        refine lv_dup hx hb dX4_eaterTold_117 rfl ?_
        refine lv_iconst (v := (nI 5)) hx hb dX4_eaterTold_118 (by decide) ?_
        refine lv_aload_n hx hb dX4_eaterTold_119 rfl (lv_at hl 0 rfl) ?_
        refine lv_iload_n hx hb dX4_eaterTold_120 rfl (lv_at hl 1 rfl) ?_
        refine xr_ro (va_runV (As := [.int (nI e)]) (rest := [.int (nI 5), .ref na, .ref na]) ⟨hx, hb, hml, hown, hts⟩ (mt_isFair l E (fun q => sz ≤ q) mo aS aT aW aO tr th n so m ts sh ow e he hn hm hso hts9) (cwV 1 hts (lw_V q940 q942 qs29 q44 q943) rfl rfl rfl (by decide +kernel) ⟨Nat.le_of_ble_eq_true rfl, Nat.le_of_ble_eq_true rfl⟩) ⟨xPre_blind, ((hM).1).recv hE rfl, fun U hU hW => xPre_at hE hS (fun _ h => h) (⟨hM, hR⟩) hU hW⟩ rfl rfl hl.1 rfl (lv_room (Nat.le_of_ble_eq_true rfl)) dX4_eaterTold_121 ⟨(show 1 + 0 ≤ 1 by omega), (show 6 + 0 ≤ 6 by omega)⟩) ?_
        have qf : fairN (tk ts so) ow n m e ≤ 1 := by unfold fairN; split <;> omega
        have jn_26 : W P0 l e0 (headSpec (ws_ yX4_eaterTold cX4_eaterTold 6 (some .int)) ({ frames := 4, cells := 1, slots := 6, locals := 160 } : Room)).room s m0 ([.ref mo, .int (nI e), .int (nI what)] : List Value).toArray below meth c0 H_21 L_22 1 6 (MQ below (xQ (fun q => sz ≤ q) (fun v _ => v = .int (nI (tld (tk ts so) ow n m e what)))) ([.ref mo, .int (nI e), .int (nI what)] : List Value).toArray s 1 6 (fun q => sz ≤ q)) (F0 m0 132 ls [.int (nI (if 0 < fairN (tk ts so) ow n m e then 1 else 0)), .int (nI 5), .ref na, .ref na]) := by
          refine xr_ti (x := (nI (if 0 < fairN (tk ts so) ow n m e then 1 else 0))) (y := (nI (fairN (tk ts so) ow n m e))) (by congr 1; split <;> omega) ?_
          refine xr_iast hx hb hE hS nz hA_ (i := 5) (by omega) (by omega) dX4_eaterTold_132 (fun H_27 L_28 hA_ hz_29 ho_30 hS => ?_)
          have hM := hM.kept (fun q hq => ho_30 q (nM q hq))
          have hR := hR.kept (ho_30 _ nR)
          have hA_ : xI E na 6 (fun j => nI (tld (tk ts so) ow n m e j)) H_27 := hA_.to (fun j hj => by rcases (show j = 0 ∨ j = 1 ∨ j = 2 ∨ j = 3 ∨ j = 4 ∨ j = 5 by omega) with rfl | rfl | rfl | rfl | rfl | rfl <;> rfl)
          refine lv_astore (lv' := [(5, .ref na), (0, .ref mo), (1, .int (nI e)), (2, .int (nI what)), (3, .int (nI (sm (fun m => if 0 < ey (tk ts so) ow n e m then 1 else 0) m))), (4, .int (nI (mx (fun m => ey (tk ts so) ow n e m) m)))]) hx hb dX4_eaterTold_133 hl (by decide) rfl (fun ls hl => ?_)
          refine lv_aload hx hb dX4_eaterTold_135 (lv_at hl 0 rfl) ?_
          refine lv_iload_n hx hb dX4_eaterTold_137 rfl (lv_at hl 3 rfl) ?_
          refine xr_iald hx hb hE hA_ (i := what) hw (by omega) dX4_eaterTold_138 ?_
          exact W.iret hx hb hr (fun t ht hW => ⟨⟨_, rfl, rfl⟩, hS.F ht⟩) hS.2.2 dX4_eaterTold_139
        refine xr_zeq (tgt := 131) hx hb dX4_eaterTold_124 (by decide) (by omega) (fun c_25 => ?_) (fun c_25 => ?_)
        · refine lv_iconst (v := (nI 0)) hx hb dX4_eaterTold_131 (by decide) ?_
          rw [if_neg (by omega)] at jn_26
          exact jn_26
        · refine lv_iconst (v := (nI 1)) hx hb dX4_eaterTold_127 (by decide) ?_
          refine lv_goto (tgt := 132) hx hb dX4_eaterTold_128 (by decide) ?_
          rw [if_pos (by omega)] at jn_26
          exact jn_26
      · refine lv_iload_n hx hb dX4_eaterTold_17 rfl (lv_at hl 3 rfl) ?_
        refine lv_aload_n hx hb dX4_eaterTold_18 rfl (lv_at hl 0 rfl) ?_
        refine lv_aload_n hx hb dX4_eaterTold_19 rfl (lv_at hl 0 rfl) ?_
        refine xr_get hx hb hts in_X4 hown hE ((hM).1) rfl 6 (by decide) (hts _ q793) (fun _ h => h) rfl dX4_eaterTold_20 ?_
        refine lv_iload_n hx hb dX4_eaterTold_23 rfl (lv_at hl 1 rfl) ?_
        refine lv_iload hx hb dX4_eaterTold_24 (lv_at hl 5 rfl) ?_
        refine xr_ro (va_runV (As := [.ref aW, .int (nI e), .int (nI o)]) (rest := [.int (nI (sm (fun o => if 0 < ey (tk ts so) ow n e o then 1 else 0) o))]) ⟨hx, hb, hml, hown, hts⟩ (mt_envy l E (fun q => sz ≤ q) mo aS aT aW aO tr th n so m ts sh aW ow e o he hn hso hts9) (cwV 3 hts (lw_V q936 q938 qs28 q44 q939) rfl rfl rfl (by decide +kernel) ⟨Nat.le_of_ble_eq_true rfl, Nat.le_of_ble_eq_true rfl⟩) ⟨xPre_blind, ((hM).1).recv hE rfl, fun U hU hW => xPre_at hE hS (fun _ h => h) (⟨hM, hR⟩) hU hW⟩ rfl rfl hl.1 rfl (lv_room (Nat.le_of_ble_eq_true rfl)) dX4_eaterTold_26 ⟨(show 0 + 0 ≤ 1 by omega), (show 0 + 0 ≤ 6 by omega)⟩) ?_
        have qe := ey_le (g := (tk ts so)) (fun e k => hts9 e (so k)) (ow := ow) hn e o
        have qm := mx_le (f := fun o => ey (tk ts so) ow n e o) (fun o => ey_le (g := (tk ts so)) (fun e k => hts9 e (so k)) (ow := ow) hn e o) o
        have jn_32 : W P0 l e0 (headSpec (ws_ yX4_eaterTold cX4_eaterTold 6 (some .int)) ({ frames := 4, cells := 1, slots := 6, locals := 160 } : Room)).room s m0 ([.ref mo, .int (nI e), .int (nI what)] : List Value).toArray below meth c0 s.heap ([]) 0 0 (MQ below (xQ (fun q => sz ≤ q) (fun v _ => v = .int (nI (tld (tk ts so) ow n m e what)))) ([.ref mo, .int (nI e), .int (nI what)] : List Value).toArray s 1 6 (fun q => sz ≤ q)) (F0 m0 37 ls [.int (nI (if 0 < ey (tk ts so) ow n e o then 1 else 0)), .int (nI (sm (fun o => if 0 < ey (tk ts so) ow n e o then 1 else 0) o))]) := by
          refine xr_iadd hx hb dX4_eaterTold_37 ?_
          refine xr_ti (x := (nI ((sm (fun o => if 0 < ey (tk ts so) ow n e o then 1 else 0) o) + (if 0 < ey (tk ts so) ow n e o then 1 else 0)))) (y := (nI (sm (fun o => if 0 < ey (tk ts so) ow n e o then 1 else 0) (o + 1)))) (by rw [sm_s]) ?_
          refine lv_istore_n (lv' := [(3, .int (nI (sm (fun o => if 0 < ey (tk ts so) ow n e o then 1 else 0) (o + 1)))), (0, .ref mo), (1, .int (nI e)), (2, .int (nI what)), (4, .int (nI (mx (fun o => ey (tk ts so) ow n e o) o))), (5, .int (nI o))]) hx hb dX4_eaterTold_38 rfl hl (by decide) rfl (fun ls hl => ?_)
          refine lv_iload hx hb dX4_eaterTold_39 (lv_at hl 4 rfl) ?_
          refine lv_aload_n hx hb dX4_eaterTold_41 rfl (lv_at hl 1 rfl) ?_
          refine lv_aload_n hx hb dX4_eaterTold_42 rfl (lv_at hl 1 rfl) ?_
          refine xr_get hx hb hts in_X4 hown hE ((hM).1) rfl 6 (by decide) (hts _ q793) (fun _ h => h) rfl dX4_eaterTold_43 ?_
          refine lv_iload_n hx hb dX4_eaterTold_46 rfl (lv_at hl 2 rfl) ?_
          refine lv_iload hx hb dX4_eaterTold_47 (lv_at hl 5 rfl) ?_
          refine xr_ro (va_runV (As := [.ref aW, .int (nI e), .int (nI o)]) (rest := [.int (nI (mx (fun o => ey (tk ts so) ow n e o) o))]) ⟨hx, hb, hml, hown, hts⟩ (mt_envy l E (fun q => sz ≤ q) mo aS aT aW aO tr th n so m ts sh aW ow e o he hn hso hts9) (cwV 3 hts (lw_V q936 q938 qs28 q44 q939) rfl rfl rfl (by decide +kernel) ⟨Nat.le_of_ble_eq_true rfl, Nat.le_of_ble_eq_true rfl⟩) ⟨xPre_blind, ((hM).1).recv hE rfl, fun U hU hW => xPre_at hE hS (fun _ h => h) (⟨hM, hR⟩) hU hW⟩ rfl rfl hl.1 rfl (lv_room (Nat.le_of_ble_eq_true rfl)) dX4_eaterTold_49 ⟨(show 0 + 0 ≤ 1 by omega), (show 0 + 0 ≤ 6 by omega)⟩) ?_
          refine va_mmax hx hb (hml.trans hl.1.symm) hown (hts _ q891) (hts _ q150) (hts _ q41) (hts _ q151) (Nat.le_of_ble_eq_true rfl) (Nat.le_of_ble_eq_true rfl) (show 0 ≤ 1 by omega) (show 0 ≤ 6 by omega) dX4_eaterTold_52 ?_
          refine xr_ti (x := (if nI (mx (fun o => ey (tk ts so) ow n e o) o) < nI (ey (tk ts so) ow n e o) then nI (ey (tk ts so) ow n e o) else nI (mx (fun o => ey (tk ts so) ow n e o) o))) (y := (nI (mx (fun o => ey (tk ts so) ow n e o) (o + 1)))) (max_nI (by omega) (by omega)) ?_
          refine lv_istore (lv' := [(4, .int (nI (mx (fun o => ey (tk ts so) ow n e o) (o + 1)))), (3, .int (nI (sm (fun o => if 0 < ey (tk ts so) ow n e o then 1 else 0) (o + 1)))), (0, .ref mo), (1, .int (nI e)), (2, .int (nI what)), (5, .int (nI o))]) hx hb dX4_eaterTold_55 hl (by decide) rfl (fun ls hl => ?_)
          refine lv_iinc (v := (nI (o + 1))) (lv' := [(5, .int (nI (o + 1))), (4, .int (nI (mx (fun o => ey (tk ts so) ow n e o) (o + 1)))), (3, .int (nI (sm (fun o => if 0 < ey (tk ts so) ow n e o then 1 else 0) (o + 1)))), (0, .ref mo), (1, .int (nI e)), (2, .int (nI what))]) hx hb dX4_eaterTold_57 hl (k := 5) rfl (nI_add o 1) (by decide) rfl (fun ls hl => ?_)
          refine lv_goto (tgt := 8) hx hb dX4_eaterTold_60 (by decide) ?_
          exact ih (o + 1) (by omega) (by omega) ls (lv_sub hl [3, 4, 5, 2, 1, 0] rfl)
        refine xr_zle (tgt := 36) hx hb dX4_eaterTold_29 (by decide) (by omega) (fun c_31 => ?_) (fun c_31 => ?_)
        · refine lv_iconst (v := (nI 0)) hx hb dX4_eaterTold_36 (by decide) ?_
          rw [if_neg (by omega)] at jn_32
          exact jn_32
        · refine lv_iconst (v := (nI 1)) hx hb dX4_eaterTold_32 (by decide) ?_
          refine lv_goto (tgt := 37) hx hb dX4_eaterTold_33 (by decide) ?_
          rw [if_pos (by omega)] at jn_32
          exact jn_32
  exact lp (m + 1) 0 (by omega) (by omega) ls (lv_sub hl [3, 4, 5, 2, 1, 0] rfl)

set_option maxHeartbeats 4000000 in
set_option maxRecDepth 100000 in
theorem mt_counted (l : Launch) (E : xG) (mo aS aT aW aO : Nat) (tr : Nat → Nat) (th : Int32) (n : Nat) (so : Nat → Nat) (m : Nat) (ts : Nat → Nat → Nat) (sh : Int32) (ow : Nat → Int32) (sz what : Nat) (hw : what < 7) (hn : n ≤ 40) (hm : m ≤ 5) (hso : ∀ k, so k < 5) (hts9 : ∀ e k, ts e k ≤ 9) : Met l yX4_counted (ws_ yX4_counted cX4_counted 5 (some .int)) ({ frames := 5, cells := 6, slots := 37, locals := 200 } : Room) (xPre E (fun q => sz ≤ q) [.ref mo, .int (nI what)] (fun H => H.size = sz ∧ xM0 E mo aS aT aW aO tr th n so m ts sh H ∧ xI E aW 40 ow H)) (xQ (fun q => sz ≤ q) (fun v _ => v = .int (cnt (tk ts so) ow n m sh what))) 6 37 (fun q => sz ≤ q) := by
  refine Met.ofW (cc := cX4_counted) (maxL := 5) (ret := (some .int)) (by decide) rfl ?_
  intro P0 e0 s m0 args below meth c0 s₁ B hml hv
  obtain ⟨rfl, hE, hsz, hM, hR⟩ := hv
  have hx := B.exec
  have hb := B.bytes
  have hr := B.returns
  have hts := atoms_spec (ws := ws_ yX4_counted cX4_counted 5 (some .int)) B.pre
  have hts : ∀ w ∈ lw_all, w.before _ s = true := fun w h => hts w (List.mem_cons_of_mem _ h)
  have hown : s.vm.findClass RX4 = some m0.cls := findClass_of_methodNamed B.named
  have hlocks := B.notSynchronized
  have hS : va_S (fun q => sz ≤ q) s.heap s.heap [] := va_S.rf
  have hl := lv_entry ([.ref mo, .int (nI what)]) (n := 5) (Nat.le_of_ble_eq_true rfl)
  rw [lg_entry_eq]
  generalize (lg_sl ([.ref mo, .int (nI what)]) ++ List.replicate (5 - (lg_sl ([.ref mo, .int (nI what)])).length) Slot.unset).toArray = ls at hl ⊢
  have hl : lv_has ls 5 [(0, .ref mo), (1, .int (nI what))] := hl
  refine lv_iconst (v := (nI 0)) hx hb dX4_counted_0 (by decide) ?_
  refine lv_istore_n (lv' := [(2, .int (nI 0)), (0, .ref mo), (1, .int (nI what))]) hx hb dX4_counted_1 rfl hl (by decide) rfl (fun ls hl => ?_)
  refine lv_iconst (v := (nI 0)) hx hb dX4_counted_2 (by decide) ?_
  refine lv_istore_n (lv' := [(3, .int (nI 0)), (2, .int (nI 0)), (0, .ref mo), (1, .int (nI what))]) hx hb dX4_counted_3 rfl hl (by decide) rfl (fun ls hl => ?_)
  refine lv_iconst (v := (nI 0)) hx hb dX4_counted_4 (by decide) ?_
  refine lv_istore (lv' := [(4, .int (nI 0)), (3, .int (nI 0)), (2, .int (nI 0)), (0, .ref mo), (1, .int (nI what))]) hx hb dX4_counted_5 hl (by decide) rfl (fun ls hl => ?_)
  have hM00 := hM
  have hR00 := hR.lt
  have lp : ∀ (nn : Nat) (e : Nat), (e ≤ m) → (m - e) < nn → ∀ (H : Heap) (locs : List Loc), (True ∧ xM0 E mo aS aT aW aO tr th n so m ts sh H) → (xI E aW 40 ow H) → va_S (fun q => sz ≤ q) s.heap H locs → ∀ (ls : Array Slot), lv_has ls 5 [(0, .ref mo), (1, .int (nI what)), (2, .int (nI (sm (fun z => prs (tk ts so) ow n m z) e))), (3, .int (nI (sm (fun z => fairN (tk ts so) ow n m z) e))), (4, .int (nI e))] → W P0 l e0 (headSpec (ws_ yX4_counted cX4_counted 5 (some .int)) ({ frames := 5, cells := 6, slots := 37, locals := 200 } : Room)).room s m0 ([.ref mo, .int (nI what)] : List Value).toArray below meth c0 H locs e (e * 6) (MQ below (xQ (fun q => sz ≤ q) (fun v _ => v = .int (cnt (tk ts so) ow n m sh what))) ([.ref mo, .int (nI what)] : List Value).toArray s 6 37 (fun q => sz ≤ q)) (F0 m0 7 ls []) := by
    intro nn
    induction nn with
    | zero =>
      intro e he1 hnn
      exact absurd hnn (Nat.not_lt_zero _)
    | succ nn ih =>
      intro e he1 hnn H locs hM hR hS ls hl
      have hM := hM.2
      refine lv_iload hx hb dX4_counted_7 (lv_at hl 4 rfl) ?_
      refine lv_aload_n hx hb dX4_counted_9 rfl (lv_at hl 0 rfl) ?_
      refine xr_get hx hb hts in_X4 hown hE ((hM).1) rfl 3 (by decide) (hts _ q790) (fun _ h => h) rfl dX4_counted_10 ?_
      refine xr_cge (tgt := 49) hx hb dX4_counted_13 (by decide) (by omega) (by omega) (fun c_1 => ?_) (fun c_1 => ?_)
      · obtain rfl : m = e := by omega
        refine lv_bipush (v := (nI 7)) hx hb dX4_counted_49 (by decide) ?_
        have hRl := hR.lt
        have hM0 := hM
        have hS1 := hS.1
        refine xr_newi hx hb (hts _ q680) hE hS (n := 7) (by omega) (show m + 1 ≤ 6 by omega) (show m * 6 + 7 ≤ 37 by omega) dX4_counted_51 (fun na H_2 ena hA_ hz_3 ho_4 hS => ?_)
        have hM := hM.kept (fun q hq => ho_4 q (hM.lt hq))
        have hR := hR.kept (ho_4 _ hR.lt)
        have nM : ∀ q, xMf mo aS aT tr q → q ≠ na := fun q hq => by have := hM0.lt hq; omega
        have nR : aW ≠ na := by omega
        have nz : sz ≤ na := by omega
        refine lv_dup hx hb dX4_counted_53 rfl ?_
        refine lv_iconst (v := (nI 0)) hx hb dX4_counted_54 (by decide) ?_
        refine lv_aload_n hx hb dX4_counted_55 rfl (lv_at hl 0 rfl) ?_
        refine xr_get hx hb hts in_X4 hown hE ((hM).1) rfl 1 (by decide) (hts _ q788) (fun _ h => h) rfl dX4_counted_56 ?_
        refine xr_iast hx hb hE hS nz hA_ (i := 0) (by omega) (by omega) dX4_counted_59 (fun H_5 L_6 hA_ hz_7 ho_8 hS => ?_)
        have hM := hM.kept (fun q hq => ho_8 q (nM q hq))
        have hR := hR.kept (ho_8 _ nR)
        refine lv_dup hx hb dX4_counted_60 rfl ?_
        refine lv_iconst (v := (nI 1)) hx hb dX4_counted_61 (by decide) ?_
        refine lv_aload_n hx hb dX4_counted_62 rfl (lv_at hl 0 rfl) ?_
        refine xr_get hx hb hts in_X4 hown hE ((hM).1) rfl 3 (by decide) (hts _ q790) (fun _ h => h) rfl dX4_counted_63 ?_
        refine xr_iast hx hb hE hS nz hA_ (i := 1) (by omega) (by omega) dX4_counted_66 (fun H_9 L_10 hA_ hz_11 ho_12 hS => ?_)
        have hM := hM.kept (fun q hq => ho_12 q (nM q hq))
        have hR := hR.kept (ho_12 _ nR)
        refine lv_dup hx hb dX4_counted_67 rfl ?_
        refine lv_iconst (v := (nI 2)) hx hb dX4_counted_68 (by decide) ?_
        refine lv_aload_n hx hb dX4_counted_69 rfl (lv_at hl 0 rfl) ?_
        refine xr_get hx hb hts in_X4 hown hE ((hM).1) rfl 6 (by decide) (hts _ q793) (fun _ h => h) rfl dX4_counted_70 ?_
        refine lv_aload_n hx hb dX4_counted_73 rfl (lv_at hl 0 rfl) ?_
        refine xr_get hx hb hts in_X4 hown hE ((hM).1) rfl 1 (by decide) (hts _ q788) (fun _ h => h) rfl dX4_counted_74 ?_
        refine lv_iconst (v := (-1)) hx hb dX4_counted_77 (by decide) ?_
        refine xr_ro (va_runS (As := [.ref aW, .int (nI n), .int (-1)]) (rest := [.int (nI 2), .ref na, .ref na]) ⟨hx, hb, hml, hown, hts⟩ (mt_many l E (fun q => sz ≤ q) aW ow n (-1) hn) (va_cwS 3 hts (lw_S q896 q897 q44 q898) rfl rfl rfl (by decide +kernel) ⟨Nat.le_of_ble_eq_true rfl, Nat.le_of_ble_eq_true rfl⟩) ⟨xPre_blind, fun U hU hW => xPre_at hE hS (fun _ h => h) hR hU hW⟩ rfl rfl hl.1 rfl (lv_room (Nat.le_of_ble_eq_true rfl)) dX4_counted_78 ⟨(show m + 1 + 0 ≤ 6 by omega), (show m * 6 + 7 + 0 ≤ 37 by omega)⟩) ?_
        refine xr_iast hx hb hE hS nz hA_ (i := 2) (by omega) (by omega) dX4_counted_81 (fun H_13 L_14 hA_ hz_15 ho_16 hS => ?_)
        have hM := hM.kept (fun q hq => ho_16 q (nM q hq))
        have hR := hR.kept (ho_16 _ nR)
        refine lv_dup hx hb dX4_counted_82 rfl ?_
        refine lv_iconst (v := (nI 3)) hx hb dX4_counted_83 (by decide) ?_
        refine lv_iload_n hx hb dX4_counted_84 rfl (lv_at hl 2 rfl) ?_
        refine xr_iast hx hb hE hS nz hA_ (i := 3) (by omega) (by omega) dX4_counted_85 (fun H_17 L_18 hA_ hz_19 ho_20 hS => ?_)
        have hM := hM.kept (fun q hq => ho_20 q (nM q hq))
        have hR := hR.kept (ho_20 _ nR)
        refine lv_dup hx hb dX4_counted_86 rfl ?_
        refine lv_iconst (v := (nI 4)) hx hb dX4_counted_87 (by decide) ?_
        refine lv_aload_n hx hb dX4_counted_88 rfl (lv_at hl 0 rfl) ?_
        refine lv_aload_n hx hb dX4_counted_89 rfl (lv_at hl 0 rfl) ?_
        refine xr_get hx hb hts in_X4 hown hE ((hM).1) rfl 6 (by decide) (hts _ q793) (fun _ h => h) rfl dX4_counted_90 ?_
        refine xr_ro (va_runV (As := [.ref aW]) (rest := [.int (nI 4), .ref na, .ref na]) ⟨hx, hb, hml, hown, hts⟩ (mt_allEnvy l E (fun q => sz ≤ q) mo aS aT aW aO tr th n so m ts sh aW ow hn hm hso hts9) (cwV 1 hts (lw_V q956 q958 qs31 q44 q959) rfl rfl rfl (by decide +kernel) ⟨Nat.le_of_ble_eq_true rfl, Nat.le_of_ble_eq_true rfl⟩) ⟨xPre_blind, ((hM).1).recv hE rfl, fun U hU hW => xPre_at hE hS (fun _ h => h) (⟨hM, hR⟩) hU hW⟩ rfl rfl hl.1 rfl (lv_room (Nat.le_of_ble_eq_true rfl)) dX4_counted_93 ⟨(show m + 1 + 0 ≤ 6 by omega), (show m * 6 + 7 + 0 ≤ 37 by omega)⟩) ?_
        refine xr_iast hx hb hE hS nz hA_ (i := 4) (by omega) (by omega) dX4_counted_96 (fun H_21 L_22 hA_ hz_23 ho_24 hS => ?_)
        have hM := hM.kept (fun q hq => ho_24 q (nM q hq))
        have hR := hR.kept (ho_24 _ nR)
        refine lv_dup hx hb dX4_counted_97 rfl ?_
        refine lv_iconst (v := (nI 5)) hx hb dX4_counted_98 (by decide) ?_
        refine lv_iload_n hx hb dX4_counted_99 rfl (lv_at hl 3 rfl) ?_
        refine xr_iast hx hb hE hS nz hA_ (i := 5) (by omega) (by omega) dX4_counted_100 (fun H_25 L_26 hA_ hz_27 ho_28 hS => ?_)
        have hM := hM.kept (fun q hq => ho_28 q (nM q hq))
        have hR := hR.kept (ho_28 _ nR)
        refine lv_dup hx hb dX4_counted_101 rfl ?_
        refine lv_bipush (v := (nI 6)) hx hb dX4_counted_102 (by decide) ?_
        refine lv_aload_n hx hb dX4_counted_104 rfl (lv_at hl 0 rfl) ?_
        refine xr_get hx hb hts in_X4 hown hE ((hM).1) rfl 5 (by decide) (hts _ q792) (fun _ h => h) rfl dX4_counted_105 ?_
        refine xr_iast hx hb hE hS nz hA_ (i := 6) (by omega) (by omega) dX4_counted_108 (fun H_29 L_30 hA_ hz_31 ho_32 hS => ?_)
        have hM := hM.kept (fun q hq => ho_32 q (nM q hq))
        have hR := hR.kept (ho_32 _ nR)
        have hA_ : xI E na 7 (fun j => cnt (tk ts so) ow n m sh j) H_29 := hA_.to (fun j hj => by rcases (show j = 0 ∨ j = 1 ∨ j = 2 ∨ j = 3 ∨ j = 4 ∨ j = 5 ∨ j = 6 by omega) with rfl | rfl | rfl | rfl | rfl | rfl | rfl <;> rfl)
        refine lv_astore (lv' := [(4, .ref na), (0, .ref mo), (1, .int (nI what)), (2, .int (nI (sm (fun z => prs (tk ts so) ow n m z) m))), (3, .int (nI (sm (fun z => fairN (tk ts so) ow n m z) m)))]) hx hb dX4_counted_109 hl (by decide) rfl (fun ls hl => ?_)
        refine lv_aload hx hb dX4_counted_111 (lv_at hl 0 rfl) ?_
        refine lv_iload_n hx hb dX4_counted_113 rfl (lv_at hl 2 rfl) ?_
        refine xr_iald hx hb hE hA_ (i := what) hw (by omega) dX4_counted_114 ?_
        refine W.widen (k := 6) (n := 37) (by omega) (by omega) ?_
        exact W.iret hx hb hr (fun t ht hW => ⟨⟨_, rfl, rfl⟩, hS.F ht⟩) hS.2.2 dX4_counted_115
      · refine lv_iload_n hx hb dX4_counted_16 rfl (lv_at hl 2 rfl) ?_
        refine lv_aload_n hx hb dX4_counted_17 rfl (lv_at hl 0 rfl) ?_
        refine lv_iload hx hb dX4_counted_18 (lv_at hl 4 rfl) ?_
        refine lv_iconst (v := (nI 3)) hx hb dX4_counted_20 (by decide) ?_
        refine xr_mu (va_runV (As := [.int (nI e), .int (nI 3)]) (rest := [.int (nI (sm (fun z => prs (tk ts so) ow n m z) e))]) ⟨hx, hb, hml, hown, hts⟩ (mt_eaterTold l E mo aS aT aW aO tr th n so m ts sh ow H.size e 3 (by omega) (by omega) hn hm hso hts9) (cwV 2 hts (lw_V q932 q934 qs27 q44 q935) rfl rfl rfl (by decide +kernel) ⟨Nat.le_of_ble_eq_true rfl, Nat.le_of_ble_eq_true rfl⟩) ⟨xPre_blind, ((hM).1).recv hE rfl, fun U hU hW => xPre_at hE hS (fun q h => Nat.le_trans (by have := hS.1; omega) h) (⟨rfl, hM, hR⟩) hU hW⟩ rfl rfl hl.1 rfl (lv_room (Nat.le_of_ble_eq_true rfl)) dX4_counted_21 ⟨(show e + 1 ≤ 6 by omega), (show e * 6 + 6 ≤ 37 by omega)⟩) hS (fun q h => Nat.le_trans (by have := hS.1; omega) h) (fun q h => Nat.le_trans (by have := hS.1; omega) h) (fun vv H_33 L_34 hP_ hz_35 hk_36 hS => ?_)
        have hv_ := hP_
        subst hv_
        refine W.eq (g2 := F0 m0 24 ls [.int (nI (prs (tk ts so) ow n m e)), .int (nI (sm (fun z => prs (tk ts so) ow n m z) e))]) rfl ?_
        have hM := hM.kept (fun q hq => hk_36 q (hM.lt hq) (Nat.not_le.mpr (hM.lt hq)))
        have hR := hR.kept (hk_36 _ hR.lt (Nat.not_le.mpr hR.lt))
        refine xr_iadd hx hb dX4_counted_24 ?_
        refine xr_ti (x := (nI ((sm (fun z => prs (tk ts so) ow n m z) e) + (prs (tk ts so) ow n m e)))) (y := (nI (sm (fun z => prs (tk ts so) ow n m z) (e + 1)))) (by rw [sm_s]) ?_
        refine lv_istore_n (lv' := [(2, .int (nI (sm (fun z => prs (tk ts so) ow n m z) (e + 1)))), (0, .ref mo), (1, .int (nI what)), (3, .int (nI (sm (fun z => fairN (tk ts so) ow n m z) e))), (4, .int (nI e))]) hx hb dX4_counted_25 rfl hl (by decide) rfl (fun ls hl => ?_)
        refine lv_iload_n hx hb dX4_counted_26 rfl (lv_at hl 3 rfl) ?_
        refine lv_aload_n hx hb dX4_counted_27 rfl (lv_at hl 1 rfl) ?_
        refine lv_iload hx hb dX4_counted_28 (lv_at hl 4 rfl) ?_
        refine xr_ro (va_runV (As := [.int (nI e)]) (rest := [.int (nI (sm (fun z => fairN (tk ts so) ow n m z) e))]) ⟨hx, hb, hml, hown, hts⟩ (mt_isFair l E (fun q => sz ≤ q) mo aS aT aW aO tr th n so m ts sh ow e (by omega) hn hm hso hts9) (cwV 1 hts (lw_V q940 q942 qs29 q44 q943) rfl rfl rfl (by decide +kernel) ⟨Nat.le_of_ble_eq_true rfl, Nat.le_of_ble_eq_true rfl⟩) ⟨xPre_blind, ((hM).1).recv hE rfl, fun U hU hW => xPre_at hE hS (fun _ h => h) (⟨hM, hR⟩) hU hW⟩ rfl rfl hl.1 rfl (lv_room (Nat.le_of_ble_eq_true rfl)) dX4_counted_30 ⟨(show e + 1 + 0 ≤ 6 by omega), (show e * 6 + 6 + 0 ≤ 37 by omega)⟩) ?_
        have qf : fairN (tk ts so) ow n m e ≤ 1 := by unfold fairN; split <;> omega
        have jn_38 : W P0 l e0 (headSpec (ws_ yX4_counted cX4_counted 5 (some .int)) ({ frames := 5, cells := 6, slots := 37, locals := 200 } : Room)).room s m0 ([.ref mo, .int (nI what)] : List Value).toArray below meth c0 H_33 L_34 (e + 1) (e * 6 + 6) (MQ below (xQ (fun q => sz ≤ q) (fun v _ => v = .int (cnt (tk ts so) ow n m sh what))) ([.ref mo, .int (nI what)] : List Value).toArray s 6 37 (fun q => sz ≤ q)) (F0 m0 41 ls [.int (nI (if 0 < fairN (tk ts so) ow n m e then 1 else 0)), .int (nI (sm (fun z => fairN (tk ts so) ow n m z) e))]) := by
          refine xr_ti (x := (nI (if 0 < fairN (tk ts so) ow n m e then 1 else 0))) (y := (nI (fairN (tk ts so) ow n m e))) (by congr 1; split <;> omega) ?_
          refine xr_iadd hx hb dX4_counted_41 ?_
          refine xr_ti (x := (nI ((sm (fun z => fairN (tk ts so) ow n m z) e) + (fairN (tk ts so) ow n m e)))) (y := (nI (sm (fun z => fairN (tk ts so) ow n m z) (e + 1)))) (by rw [sm_s]) ?_
          refine lv_istore_n (lv' := [(3, .int (nI (sm (fun z => fairN (tk ts so) ow n m z) (e + 1)))), (2, .int (nI (sm (fun z => prs (tk ts so) ow n m z) (e + 1)))), (0, .ref mo), (1, .int (nI what)), (4, .int (nI e))]) hx hb dX4_counted_42 rfl hl (by decide) rfl (fun ls hl => ?_)
          refine lv_iinc (v := (nI (e + 1))) (lv' := [(4, .int (nI (e + 1))), (3, .int (nI (sm (fun z => fairN (tk ts so) ow n m z) (e + 1)))), (2, .int (nI (sm (fun z => prs (tk ts so) ow n m z) (e + 1)))), (0, .ref mo), (1, .int (nI what))]) hx hb dX4_counted_43 hl (k := 4) rfl (nI_add e 1) (by decide) rfl (fun ls hl => ?_)
          refine lv_goto (tgt := 7) hx hb dX4_counted_46 (by decide) ?_
          refine W.widen (k := e + 1) (n := (e + 1) * 6) (by omega) (by omega) ?_
          exact ih (e + 1) (by omega) (by omega) _ _ (⟨trivial, hM⟩) hR hS ls (lv_sub hl [3, 4, 2, 1, 0] rfl)
        refine xr_zeq (tgt := 40) hx hb dX4_counted_33 (by decide) (by omega) (fun c_37 => ?_) (fun c_37 => ?_)
        · refine lv_iconst (v := (nI 0)) hx hb dX4_counted_40 (by decide) ?_
          rw [if_neg (by omega)] at jn_38
          exact jn_38
        · refine lv_iconst (v := (nI 1)) hx hb dX4_counted_36 (by decide) ?_
          refine lv_goto (tgt := 41) hx hb dX4_counted_37 (by decide) ?_
          rw [if_pos (by omega)] at jn_38
          exact jn_38
  refine W.widen (k := 0) (n := 0 * 6) (by omega) (by omega) ?_
  exact lp (m + 1) 0 (by omega) (by omega) _ _ (⟨trivial, hM⟩) hR hS ls (lv_sub hl [3, 4, 2, 1, 0] rfl)
