theorem lf_lk : Cond.methodLink RX0 158 (⟨RX7, "sends", "(LThreeStrangers$Groups;I)I"⟩ : MethodName) ∈ cLeaves narrow_1 := by decide +kernel
theorem lf_sm : sDf ∈ cLeaves narrow_1 := by decide +kernel
theorem lf_1 : Cond.landsInDefault RX8 (⟨RX7, "sends", "(LThreeStrangers$Groups;I)I"⟩ : MethodName) yX16_sends ∈ cLeaves narrow_1 := by decide +kernel
theorem lf_2 : Cond.landsInDefault RX9 (⟨RX7, "sends", "(LThreeStrangers$Groups;I)I"⟩ : MethodName) yX16_sends ∈ cLeaves narrow_1 := by decide +kernel
theorem lf_3 : Cond.landsInDefault RX10 (⟨RX7, "sends", "(LThreeStrangers$Groups;I)I"⟩ : MethodName) yX16_sends ∈ cLeaves narrow_1 := by decide +kernel
theorem lf_4 : Cond.landsInDefault RX11 (⟨RX7, "sends", "(LThreeStrangers$Groups;I)I"⟩ : MethodName) yX16_sends ∈ cLeaves narrow_1 := by decide +kernel
theorem lf_5 : Cond.landsInDefault RX12 (⟨RX7, "sends", "(LThreeStrangers$Groups;I)I"⟩ : MethodName) yX16_sends ∈ cLeaves narrow_1 := by decide +kernel
section KFS
variable {p : Program} {l : Launch} {e : Env} {F1 mc1 ms1 : Nat} {s : State} {m : MethodId} {args : Array Value} {below : List Frame} {meth : Method} {c : Code} {H : Heap} {locs : List Loc} {cells slots : Nat} {Q : State → Prop} {cc : ByteArray} {pc nL1 index n : Nat} {ls : Array Slot} {rest : List Value} {E : En} {A : Nat → Prop} {wc : va_W} {own : String} {As : List Value} {b q kd : Nat} {a : Int32}
variable {mc ms F : Nat} {S : Type}
theorem kFSends {post : Int32 → S → Prop} {ws1 : S → va_W} {wr : va_W} (f : va_W → va_W) (hexec : p.tables.exec = Jvm.exec) (hb : c.code = cc) (hml : c.maxLocals = nL1) (hts : ∀ w ∈ lw_all, w.before args s = true) (hown : s.vm.findClass RX16 = some m.cls) (hK : KX E A s) (hA : ∀ q, s.heap.size ≤ q → A q) (hl : ls.size = nL1) (hf : isCtx f) (hI : wI E A s H locs (f (manW E q kd a ++ wr)))
    (hM : SndOK l E kd (.ref q :: As) (manW E q kd a ++ wr) post ws1) (h1 : 1 ≤ kd) (h5 : kd ≤ 5) (hn : As.length = 3) (hF : 4 ≤ F1) (hcs : cells + 0 ≤ mc1 ∧ slots + 0 ≤ ms1) (hroom : (rest.map fun v => v.category).sum ≤ 8) (hdg : decode cc pc = .ok (.invokeinterface 1 4, 5))
    (kk : ∀ (r : Int32) (u : S) (H1 : Heap) (locs1 : List Loc), post r u → wI E A s H1 locs1 (f (ws1 u)) → H.size ≤ H1.size → W p l e (rmF F1 mc1 ms1) s m args below meth c H1 locs1 (cells + 0) (slots + 0) Q (F0 m (pc + 5) ls (.int r :: rest))) : W p l e (rmF F1 mc1 ms1) s m args below meth c H locs cells slots Q (F0 m pc ls (As.reverse ++ .ref q :: rest)) := by
  have hk : kd = 1 ∨ kd = 2 ∨ kd = 3 ∨ kd = 4 ∨ kd = 5 := by omega
  rcases hk with e | e | e | e | e
  · subst e
    exact kFI (count := 4) (x := (⟨RX16, "sends", "(LThreeStrangers$Groups;II)I"⟩ : MethodName)) (C := RX8) (rest := rest) f hexec hb hml hts hown hK hA hl hf hI (hM.1 rfl) (lw_F q681 q719 q721 q99 q723) (hK.xw.face q722 q720 q718) ⟨by decide +kernel, by decide +kernel, by decide +kernel⟩ 0 7 rfl rfl (he_l manW_o) hn (by omega) (Nat.le_of_ble_eq_true rfl) hcs hroom hdg kk
  · subst e
    exact kFI (count := 4) (x := (⟨RX16, "sends", "(LThreeStrangers$Groups;II)I"⟩ : MethodName)) (C := RX9) (rest := rest) f hexec hb hml hts hown hK hA hl hf hI (hM.2.1 (Or.inl rfl)) (lw_F q681 q695 q697 q100 q699) (hK.xw.face q698 q696 q694) ⟨by decide +kernel, by decide +kernel, by decide +kernel⟩ 0 8 rfl rfl (he_l manW_o) hn (by omega) (Nat.le_of_ble_eq_true rfl) hcs hroom hdg kk
  · subst e
    exact kFI (count := 4) (x := (⟨RX16, "sends", "(LThreeStrangers$Groups;II)I"⟩ : MethodName)) (C := RX10) (rest := rest) f hexec hb hml hts hown hK hA hl hf hI (hM.2.2.1 rfl) (lw_F q681 q732 q734 q101 q736) (hK.xw.face q735 q733 q731) ⟨by decide +kernel, by decide +kernel, by decide +kernel⟩ 0 9 rfl rfl (he_l manW_o) hn (by omega) (Nat.le_of_ble_eq_true rfl) hcs hroom hdg kk
  · subst e
    exact kFI (count := 4) (x := (⟨RX16, "sends", "(LThreeStrangers$Groups;II)I"⟩ : MethodName)) (C := RX11) (rest := rest) f hexec hb hml hts hown hK hA hl hf hI (hM.2.1 (Or.inr rfl)) (lw_F q681 q729 q697 q100 q699) (hK.xw.face q698 q730 q728) ⟨by decide +kernel, by decide +kernel, by decide +kernel⟩ 0 10 rfl rfl (he_l manW_o) hn (by omega) (Nat.le_of_ble_eq_true rfl) hcs hroom hdg kk
  · subst e
    exact kFI (count := 4) (x := (⟨RX16, "sends", "(LThreeStrangers$Groups;II)I"⟩ : MethodName)) (C := RX12) (rest := rest) f hexec hb hml hts hown hK hA hl hf hI (hM.2.2.2 rfl) (lw_F q681 q685 q687 q103 q689) (hK.xw.face q688 q686 q684) ⟨by decide +kernel, by decide +kernel, by decide +kernel⟩ 0 11 rfl rfl (he_l manW_o) hn (by omega) (Nat.le_of_ble_eq_true rfl) hcs hroom hdg kk
theorem kDSends {post : Int32 → S → Prop} {ws1 : S → va_W} {wr : va_W} (f : va_W → va_W) (hexec : p.tables.exec = Jvm.exec) (hb : c.code = cc) (hml : c.maxLocals = nL1) (hts : ∀ w ∈ lw_all, w.before args s = true) (hown : s.vm.findClass RX0 = some m.cls) (hK : KX E A s) (hA : ∀ q, s.heap.size ≤ q → A q) (hl : ls.size = nL1) (hf : isCtx f) (hI : wI E A s H locs (f (manW E q kd a ++ wr)))
    (hM : CtI l E yX16_sends cX16_sends 3 .int F mc ms (.ref q :: As) (manW E q kd a ++ wr) post ws1) (h1 : 1 ≤ kd) (h5 : kd ≤ 5) (hn : As.length = 2) (hF : F + 1 ≤ F1) (hcs : cells + mc ≤ mc1 ∧ slots + ms ≤ ms1) (hroom : (rest.map fun v => v.category).sum ≤ 8) (hdg : decode cc pc = .ok (.invokevirtual 158, 3))
    (kk : ∀ (r : Int32) (u : S) (H1 : Heap) (locs1 : List Loc), post r u → wI E A s H1 locs1 (f (ws1 u)) → H.size ≤ H1.size → W p l e (rmF F1 mc1 ms1) s m args below meth c H1 locs1 (cells + mc) (slots + ms) Q (F0 m (pc + 3) ls (.int r :: rest))) : W p l e (rmF F1 mc1 ms1) s m args below meth c H locs cells slots Q (F0 m pc ls (As.reverse ++ .ref q :: rest)) := by
  have hk : kd = 1 ∨ kd = 2 ∨ kd = 3 ∨ kd = 4 ∨ kd = 5 := by omega
  rcases hk with e | e | e | e | e
  · subst e
    exact kDI (C := RX8) (rest := rest) f hexec hb hml hts hown hK hA hl hf hI hM lf_lk lf_sm lf_1 0 7 rfl rfl (he_l manW_o) hn hF hcs hroom hdg kk
  · subst e
    exact kDI (C := RX9) (rest := rest) f hexec hb hml hts hown hK hA hl hf hI hM lf_lk lf_sm lf_2 0 8 rfl rfl (he_l manW_o) hn hF hcs hroom hdg kk
  · subst e
    exact kDI (C := RX10) (rest := rest) f hexec hb hml hts hown hK hA hl hf hI hM lf_lk lf_sm lf_3 0 9 rfl rfl (he_l manW_o) hn hF hcs hroom hdg kk
  · subst e
    exact kDI (C := RX11) (rest := rest) f hexec hb hml hts hown hK hA hl hf hI hM lf_lk lf_sm lf_4 0 10 rfl rfl (he_l manW_o) hn hF hcs hroom hdg kk
  · subst e
    exact kDI (C := RX12) (rest := rest) f hexec hb hml hts hown hK hA hl hf hI hM lf_lk lf_sm lf_5 0 11 rfl rfl (he_l manW_o) hn hF hcs hroom hdg kk
end KFS

theorem c16_sends (l : Launch) (E : En) (q : Nat) (kd : Nat) (a : Int32) (adg : Nat → Nat) (ivg : Nat → Int32) (grg : Nat → Int32) (pag : Nat → Int32) (mog : Nat → Int32) (sgg : Nat → Int32) (adn : Nat → Nat) (ivn : Nat → Int32) (hrn : Nat → Int32) (csn : Nat → Int32) (K : Nat → Nat → Int32) (n st Y k9 : Nat) (h1 : 1 ≤ kd) (h5 : kd ≤ 5) (hn : ivn 3 = nI n) (hc : ivg 5 = nI (GL K n st).length) (hn7 : n ≤ 7) (hL : gL grg (GL K n st)) (hM : (∀ Z, Z < 2 ^ n → mog Z = nI (mostV (GL K n st) Z))) (hsg : (∀ p, p < n → sgg p = nI (strS K p n))) (hY : Y < 2 ^ n) (h9 : k9 < 100) (ha : a = nI k9) : CtI l E yX16_sends cX16_sends 3 .int 4 0 0 [.ref q, .ref (adg 8), .int (nI Y)] (manW E q kd a ++ (gW E adg ivg grg pag mog sgg (some (adn 10)) ++ (tW E adn ivn hrn csn (sK K)))) (fun (r : Int32) (u : Unit) => r = nI (sentV K csn n st kd k9 Y 0)) (fun (u : Unit) => manW E q kd a ++ (gW E adg ivg grg pag mog sgg (some (adn 10)) ++ (tW E adn ivn hrn csn (sK K)))) := by
  refine CtI.of (by decide +kernel) (Nat.le_of_ble_eq_true rfl) ?_
  intro pR eR sR mR aR bR tR cR AR ls QR hxR hbR hmlR hts hown hlk hnm hA hK hI hl hret
  have hl : lv_has ls 3 [(0, .ref q), (1, .ref (adg 8)), (2, .int (nI Y))] := hl
  refine lv_aload_n hxR hbR dX16_sends_0 rfl (lv_at hl 0 rfl) ?_
  refine lv_aload_n hxR hbR dX16_sends_1 rfl (lv_at hl 1 rfl) ?_
  refine lv_iload_n hxR hbR dX16_sends_2 rfl (lv_at hl 2 rfl) ?_
  refine lv_iconst (v := 0) hxR hbR dX16_sends_3 (by decide) ?_
  refine kFSends (As := [.ref (adg 8), .int (nI Y), .int 0]) (rest := []) (fun w => w) hxR hbR hmlR hts hown hK hA hl.1 isCtx.id hI (sends_ok l E q kd a adg ivg grg pag mog sgg adn ivn hrn csn K n st Y 0 k9 h1 h5 hn hc hn7 hL hM hsg hY (by decide) h9 ha) h1 h5 rfl (Nat.le_of_ble_eq_true rfl) ⟨Nat.le_of_ble_eq_true rfl, Nat.le_of_ble_eq_true rfl⟩ (Nat.le_of_ble_eq_true rfl) dX16_sends_4 (fun r_4 u H locs hp hI hz => ?_)
  have hp : r_4 = nI (sentV K csn n st kd k9 Y 0) := hp
  subst hp
  have hI : wI E AR sR H locs (manW E q kd a ++ (gW E adg ivg grg pag mog sgg (some (adn 10)) ++ (tW E adn ivn hrn csn (sK K)))) := hI
  exact hret () (nI (sentV K csn n st kd k9 Y 0)) _ _ _ _ _ _ dX16_sends_9 hI (by show (nI (sentV K csn n st kd k9 Y 0)) = nI (sentV K csn n st kd k9 Y 0); rfl) (Nat.le_of_ble_eq_true rfl) (Nat.le_of_ble_eq_true rfl) rfl

theorem c0_says_2 (l : Launch) (E : En) (ad : Nat → Nat) (iv : Nat → Int32) (ch : Nat → Int32) (rd : Nat → Int32) (tp : Nat → Int32) (rf : Nat → Int32) (hd : Nat → Option Nat) (tr : Nat) (dy : Nat) (im : Option Nat) (qm : Nat) (kdm : Nat) (am : Int32) (adg : Nat → Nat) (ivg : Nat → Int32) (grg : Nat → Int32) (pag : Nat → Int32) (mog : Nat → Int32) (sgg : Nat → Int32) (tng : Option Nat) (adn : Nat → Nat) (ivn : Nat → Int32) (hrn : Nat → Int32) (csn : Nat → Int32) (K : Nat → Nat → Int32) (n st : Nat) (k9 : Nat) (hn : ivn 3 = nI n) (hst : ivn 4 = nI st) (hn7 : n ≤ 7) (hs2 : 2 ≤ st) (hs4 : st ≤ 4) (hsym : kSym K n) (h1m : 1 ≤ kdm) (h5m : kdm ≤ 5) (h9 : k9 < 100) (ha : am = nI k9) : CtI l E yX0_says_2 cX0_says_2 2 .int 14 0 0 [.ref (ad 11), .ref qm] (xW E ad iv ch rd tp rf hd (adn 10) tr (adg 8) dy im ++ (manW E qm kdm am ++ (gW E adg ivg grg pag mog sgg tng ++ (tW E adn ivn hrn csn (sK K))))) (fun (r : Int32) (u : (Nat → Int32) × (Nat → Int32) × (Nat → Int32) × (Nat → Int32) × (Option Nat) × Int32) => r = nI (sentV K csn n st kdm k9 (2 ^ n - 1) 0)) (fun (u : (Nat → Int32) × (Nat → Int32) × (Nat → Int32) × (Nat → Int32) × (Option Nat) × Int32) => xW E ad iv ch rd tp rf hd (adn 10) tr (adg 8) dy im ++ (manW E qm kdm am ++ (gW E adg (va_up ivg 5 u.2.2.2.2.2) u.2.2.1 u.2.2.2.1 u.1 u.2.1 u.2.2.2.2.1 ++ (tW E adn ivn hrn csn (sK K))))) := by
  have h28 : 2 ^ n ≤ 2 ^ 7 := Nat.pow_le_pow_right (by decide) hn7
  refine CtI.of (by decide +kernel) (Nat.le_of_ble_eq_true rfl) ?_
  intro pR eR sR mR aR bR tR cR AR ls QR hxR hbR hmlR hts hown hlk hnm hA hK hI hl hret
  have hl : lv_has ls 2 [(0, .ref (ad 11)), (1, .ref qm)] := hl
  refine lv_aload_n hxR hbR dX0_says_2_0 rfl (lv_at hl 1 rfl) ?_
  refine lv_aload_n hxR hbR dX0_says_2_1 rfl (lv_at hl 0 rfl) ?_
  have hI : wI E AR sR _ _ (xW E ad iv ch rd tp rf hd (adn 10) tr (adg 8) dy im ++ (gW E adg ivg grg pag mog sgg tng ++ (tW E adn ivn hrn csn (sK K) ++ (manW E qm kdm am)))) := wI_pick ([xW E ad iv ch rd tp rf hd (adn 10) tr (adg 8) dy im, manW E qm kdm am, gW E adg ivg grg pag mog sgg tng, tW E adn ivn hrn csn (sK K)]) [0, 2, 3, 1] 4 rfl (by decide) hI
  have hI := wI_w app3 hI
  refine kVT (n := 0) (As := []) (rest := [.ref qm]) (fun w => w ++ (manW E qm kdm am)) hxR hbR hmlR hts hown hK hA hl.1 (isCtx.suf _) hI (c0_groups l E ad iv ch rd tp rf hd tr dy im adg ivg grg pag mog sgg tng adn ivn hrn csn K n st hn hst (by first | omega | with_reducible assumption) (by first | omega | with_reducible assumption) (by first | omega | with_reducible assumption) (by first | omega | with_reducible assumption)) (lw_V q626 q628 qs5 q81 q629) ⟨rfl, by decide +kernel⟩ 8 0 rfl rfl (he_l xW_o) rfl (Nat.le_of_ble_eq_true rfl) (Nat.le_of_ble_eq_true rfl) ⟨Nat.le_of_ble_eq_true rfl, Nat.le_of_ble_eq_true rfl⟩ (Nat.le_of_ble_eq_true rfl) dX0_says_2_2 (fun u H locs hp hI hz => ?_)
  obtain ⟨mo2_2, sg2_2⟩ := u
  have hI := wI_w app3.symm hI
  have hI : wI E AR sR H locs (xW E ad iv ch rd tp rf hd (adn 10) tr (adg 8) dy im ++ (gW E adg (va_up ivg 5 (nI ((GL K n st).length))) (wrL grg 0 (GL K n st)) (wrL pag 0 ((GL K n st).map pairN)) mo2_2 sg2_2 (some (adn 10)) ++ (tW E adn ivn hrn csn (sK K) ++ (manW E qm kdm am)))) := hI
  have hI : wI E AR sR _ _ (xW E ad iv ch rd tp rf hd (adn 10) tr (adg 8) dy im ++ (manW E qm kdm am ++ (gW E adg (va_up ivg 5 (nI ((GL K n st).length))) (wrL grg 0 (GL K n st)) (wrL pag 0 ((GL K n st).map pairN)) mo2_2 sg2_2 (some (adn 10)) ++ (tW E adn ivn hrn csn (sK K))))) := wI_pick ([xW E ad iv ch rd tp rf hd (adn 10) tr (adg 8) dy im, gW E adg (va_up ivg 5 (nI ((GL K n st).length))) (wrL grg 0 (GL K n st)) (wrL pag 0 ((GL K n st).map pairN)) mo2_2 sg2_2 (some (adn 10)), tW E adn ivn hrn csn (sK K), manW E qm kdm am]) [0, 3, 1, 2] 4 rfl (by decide) hI
  have hp : (∀ Z, Z < 2 ^ n → mo2_2 Z = nI (mostV (GL K n st) Z)) ∧ (∀ p, p < n → sg2_2 p = nI (strS K p n)) := hp
  obtain ⟨hmo_2, hsg_2⟩ := hp
  have hLg : gL (wrL grg 0 (GL K n st)) (GL K n st) := gL_wr hn7 hs2 hs4
  refine lv_aload_n hxR hbR dX0_says_2_5 rfl (lv_at hl 0 rfl) ?_
  refine r_get hxR hbR hts hown hK hI okX0 (ci := 0) rfl 8 (he_l xW_o) 0 (by decide) q263 rfl (v := .ref (adn 10)) rfl dX0_says_2_6 ?_
  have hI := wI_w app3 hI
  refine kVI (n := 0) (As := []) (rest := [.ref (adg 8), .ref qm]) (fun w => (xW E ad iv ch rd tp rf hd (adn 10) tr (adg 8) dy im ++ (manW E qm kdm am ++ (gW E adg (va_up ivg 5 (nI ((GL K n st).length))) (wrL grg 0 (GL K n st)) (wrL pag 0 ((GL K n st).map pairN)) mo2_2 sg2_2 (some (adn 10))))) ++ w) hxR hbR hmlR hts hown hK hA hl.1 (isCtx.pre _) hI (c1_all l E adn ivn hrn csn K n hn (by omega)) (lw_V q669 q643 q644 q82 q645) ⟨rfl, by decide +kernel⟩ 0 1 rfl rfl tW_o rfl (Nat.le_of_ble_eq_true rfl) (Nat.le_of_ble_eq_true rfl) ⟨Nat.le_of_ble_eq_true rfl, Nat.le_of_ble_eq_true rfl⟩ (Nat.le_of_ble_eq_true rfl) dX0_says_2_9 (fun r_9 u H locs hp hI hz => ?_)
  have hI := wI_w app3.symm hI
  have hI : wI E AR sR H locs (xW E ad iv ch rd tp rf hd (adn 10) tr (adg 8) dy im ++ (manW E qm kdm am ++ (gW E adg (va_up ivg 5 (nI ((GL K n st).length))) (wrL grg 0 (GL K n st)) (wrL pag 0 ((GL K n st).map pairN)) mo2_2 sg2_2 (some (adn 10)) ++ (tW E adn ivn hrn csn (sK K))))) := hI
  have hp : r_9 = nI (2 ^ n - 1) := hp
  have hr_9 := hp
  subst hr_9
  have hI : wI E AR sR _ _ (manW E qm kdm am ++ (gW E adg (va_up ivg 5 (nI ((GL K n st).length))) (wrL grg 0 (GL K n st)) (wrL pag 0 ((GL K n st).map pairN)) mo2_2 sg2_2 (some (adn 10)) ++ (tW E adn ivn hrn csn (sK K) ++ (xW E ad iv ch rd tp rf hd (adn 10) tr (adg 8) dy im)))) := wI_pick ([xW E ad iv ch rd tp rf hd (adn 10) tr (adg 8) dy im, manW E qm kdm am, gW E adg (va_up ivg 5 (nI ((GL K n st).length))) (wrL grg 0 (GL K n st)) (wrL pag 0 ((GL K n st).map pairN)) mo2_2 sg2_2 (some (adn 10)), tW E adn ivn hrn csn (sK K)]) [1, 2, 3, 0] 4 rfl (by decide) hI
  have hI := wI_w app3 hI
  refine kDSends (As := [.ref (adg 8), .int (nI (2 ^ n - 1))]) (rest := []) (fun w => w ++ (xW E ad iv ch rd tp rf hd (adn 10) tr (adg 8) dy im)) hxR hbR hmlR hts hown hK hA hl.1 (isCtx.suf _) hI (c16_sends l E qm kdm am adg (va_up ivg 5 (nI ((GL K n st).length))) (wrL grg 0 (GL K n st)) (wrL pag 0 ((GL K n st).map pairN)) mo2_2 sg2_2 adn ivn hrn csn K n st (2 ^ n - 1) k9 h1m h5m hn rfl hn7 hLg hmo_2 hsg_2 (by have := Nat.two_pow_pos n; omega) h9 ha) h1m h5m rfl (Nat.le_of_ble_eq_true rfl) ⟨Nat.le_of_ble_eq_true rfl, Nat.le_of_ble_eq_true rfl⟩ (Nat.le_of_ble_eq_true rfl) dX0_says_2_12 (fun r_12 u H locs hp hI hz => ?_)
  have hp : r_12 = nI (sentV K csn n st kdm k9 (2 ^ n - 1) 0) := hp
  subst hp
  have hI := wI_w app3.symm hI
  have hI : wI E AR sR H locs (manW E qm kdm am ++ (gW E adg (va_up ivg 5 (nI ((GL K n st).length))) (wrL grg 0 (GL K n st)) (wrL pag 0 ((GL K n st).map pairN)) mo2_2 sg2_2 (some (adn 10)) ++ (tW E adn ivn hrn csn (sK K) ++ (xW E ad iv ch rd tp rf hd (adn 10) tr (adg 8) dy im)))) := hI
  have hI : wI E AR sR _ _ (xW E ad iv ch rd tp rf hd (adn 10) tr (adg 8) dy im ++ (manW E qm kdm am ++ (gW E adg (va_up ivg 5 (nI ((GL K n st).length))) (wrL grg 0 (GL K n st)) (wrL pag 0 ((GL K n st).map pairN)) mo2_2 sg2_2 (some (adn 10)) ++ (tW E adn ivn hrn csn (sK K))))) := wI_pick ([manW E qm kdm am, gW E adg (va_up ivg 5 (nI ((GL K n st).length))) (wrL grg 0 (GL K n st)) (wrL pag 0 ((GL K n st).map pairN)) mo2_2 sg2_2 (some (adn 10)), tW E adn ivn hrn csn (sK K), xW E ad iv ch rd tp rf hd (adn 10) tr (adg 8) dy im]) [3, 0, 1, 2] 4 rfl (by decide) hI
  exact hret (mo2_2, sg2_2, wrL grg 0 (GL K n st), wrL pag 0 ((GL K n st).map pairN), some (adn 10), nI ((GL K n st).length)) (nI (sentV K csn n st kdm k9 (2 ^ n - 1) 0)) _ _ _ _ _ _ dX0_says_2_15 hI (by show (nI (sentV K csn n st kdm k9 (2 ^ n - 1) 0)) = nI (sentV K csn n st kdm k9 (2 ^ n - 1) 0); rfl) (Nat.le_of_ble_eq_true rfl) (Nat.le_of_ble_eq_true rfl) rfl
