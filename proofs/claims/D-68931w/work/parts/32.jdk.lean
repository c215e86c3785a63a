/-! ===== String.length, String.charAt over a String of Latin1 bytes that is never written ===== -/
theorem nd_J1_length : pr_nd yJ1_length 0 := ⟨by decide +kernel, by decide +kernel, by decide +kernel⟩
theorem nd_J1_charAt : pr_nd yJ1_charAt 1 := ⟨by decide +kernel, by decide +kernel, by decide +kernel⟩
theorem nd_J1_coder : pr_nd yJ1_coder 0 := ⟨by decide +kernel, by decide +kernel, by decide +kernel⟩
theorem nd_J1_isLatin1 : pr_nd yJ1_isLatin1 0 := ⟨by decide +kernel, by decide +kernel, by decide +kernel⟩
theorem nd_J2_charAt : pr_nd yJ2_charAt 2 := ⟨by decide +kernel, by decide +kernel, by decide +kernel⟩
theorem nd_J1_checkIndex : pr_nd yJ1_checkIndex 2 := ⟨by decide +kernel, by decide +kernel, by decide +kernel⟩
theorem nd_J3_checkIndex : pr_nd yJ3_checkIndex 3 := ⟨by decide +kernel, by decide +kernel, by decide +kernel⟩
section JTL
variable {p : Program} {l : Launch} {e : Env} {R : Room} {s : State} {m : MethodId} {args : Array Value} {below : List Frame} {meth : Method} {c : Code} {H : Heap} {locs : List Loc} {cells slots : Nat} {Q : State → Prop}
variable {cc : ByteArray} {pc : Nat} {ls : Array Slot} {rest : List Value} {A : Nat → Prop} {t N : Nat} {f : Nat → Value} {ty : FieldType}
theorem pr_tlen (hexec : p.tables.exec = Jvm.exec) (hb : c.code = cc) (hT : va_T ty t N f A s s.heap) (hS : va_S A s.heap H locs) (hdg : decode cc pc = .ok (.arraylength, 1))
    (kk : W p l e R s m args below meth c H locs cells slots Q (F0 m (pc + 1) ls (.int (Int32.ofNat N) :: rest))) : W p l e R s m args below meth c H locs cells slots Q (F0 m pc ls (.ref t :: rest)) := by
  obtain ⟨cell, h1, h2, h3, h4, h5, h6, h7⟩ := hT
  exact W.alen hexec hb (by rw [hS.2.1 t (Array.getElem?_eq_some_iff.mp h1).1 h7]; exact h1) h2 h5 rfl rfl hdg kk
end JTL
theorem wk_J1_coder (l : Launch) (E : pr_Env) (bs : List Int32) (a : Nat) (ws : va_W) : Met l yJ1_coder (ws_ yJ1_coder cJ1_coder 1 (some .byte)) ({ frames := 0, cells := 0, slots := 0, locals := 0 } : Room) (pr_P E [.ref a] ws [(bs, a)]) (pr_Qi E 0 (fun _ : Unit => ws)) 0 0 (pr_A E.2.2.1) := by
  refine pr_of (by decide) (Nat.le_of_ble_eq_true rfl) ?_
  intro p e s m args below meth c X ls hl hP hD hss
  have hx := X.1
  have hb := X.2.1
  have hown := X.2.2.2.2.2.1
  have hts := X.2.2.2.2.2.2.1
  have hs : pr_sT E.2.2.1 bs a s s.heap := hss (bs, a) List.mem_cons_self
  have hS : va_S (pr_A E.2.2.1) s.heap s.heap [] := va_S.rf
  have hl : lv_has ls 1 [(0, .ref a)] := hl
  obtain ⟨-, -, -, -, -, -, -, h8, -⟩ := X.2.2.2.2.2.2.2
  refine va_gets hx hb h8 hS hown (hts _ q413) (fun _ h => h) dJ1_coder_0 ?_
  refine lv_if_eq (tgt := 13) hx hb dJ1_coder_3 (by decide) (fun hc => absurd hc (by decide)) (fun _ => ?_)
  refine lv_aload_n hx hb dJ1_coder_6 rfl (lv_at hl 0 rfl) ?_
  refine vk_getf hx hb hs.2.1 hS hown (hts _ q1263) (fun _ h => h) dJ1_coder_7 ?_
  refine lv_goto (tgt := 14) hx hb dJ1_coder_10 (by decide) ?_
  exact pr_rz () X rfl hP hD hS dJ1_coder_14
theorem wk_J1_isLatin1 (l : Launch) (E : pr_Env) (bs : List Int32) (a : Nat) (ws : va_W) : Met l yJ1_isLatin1 (ws_ yJ1_isLatin1 cJ1_isLatin1 1 (some .boolean)) ({ frames := 0, cells := 0, slots := 0, locals := 0 } : Room) (pr_P E [.ref a] ws [(bs, a)]) (pr_Qi E 1 (fun _ : Unit => ws)) 0 0 (pr_A E.2.2.1) := by
  refine pr_of (by decide) (Nat.le_of_ble_eq_true rfl) ?_
  intro p e s m args below meth c X ls hl hP hD hss
  have hx := X.1
  have hb := X.2.1
  have hown := X.2.2.2.2.2.1
  have hts := X.2.2.2.2.2.2.1
  have hs : pr_sT E.2.2.1 bs a s s.heap := hss (bs, a) List.mem_cons_self
  have hS : va_S (pr_A E.2.2.1) s.heap s.heap [] := va_S.rf
  have hl : lv_has ls 1 [(0, .ref a)] := hl
  obtain ⟨-, -, -, -, -, -, -, h8, -⟩ := X.2.2.2.2.2.2.2
  refine va_gets hx hb h8 hS hown (hts _ q413) (fun _ h => h) dJ1_isLatin1_0 ?_
  refine lv_if_eq (tgt := 17) hx hb dJ1_isLatin1_3 (by decide) (fun hc => absurd hc (by decide)) (fun _ => ?_)
  refine lv_aload_n hx hb dJ1_isLatin1_6 rfl (lv_at hl 0 rfl) ?_
  refine vk_getf hx hb hs.2.1 hS hown (hts _ q1263) (fun _ h => h) dJ1_isLatin1_7 ?_
  refine lv_if_ne (tgt := 17) hx hb dJ1_isLatin1_10 (by decide) (fun hc => absurd rfl hc) (fun _ => ?_)
  refine lv_iconst (v := 1) hx hb dJ1_isLatin1_13 (by decide) ?_
  refine lv_goto (tgt := 18) hx hb dJ1_isLatin1_14 (by decide) ?_
  exact pr_rz () X rfl hP hD hS dJ1_isLatin1_18
theorem wk_J1_length (l : Launch) (E : pr_Env) (bs : List Int32) (a : Nat) (ws : va_W) (r : Int32) (h : J_length bs = some r) : Met l yJ1_length (ws_ yJ1_length cJ1_length 1 (some .int)) ({ frames := 3, cells := 0, slots := 0, locals := 70 } : Room) (pr_P E [.ref a] ws [(bs, a)]) (pr_Qi E r (fun _ : Unit => ws)) 0 0 (pr_A E.2.2.1) := by
  cases h
  refine pr_of (by decide) (Nat.le_of_ble_eq_true rfl) ?_
  intro p e s m args below meth c X ls hl hP hD hss
  have hx := X.1
  have hb := X.2.1
  have hown := X.2.2.2.2.2.1
  have hts := X.2.2.2.2.2.2.1
  have hs : pr_sT E.2.2.1 bs a s s.heap := hss (bs, a) List.mem_cons_self
  have hS : va_S (pr_A E.2.2.1) s.heap s.heap [] := va_S.rf
  have hl : lv_has ls 1 [(0, .ref a)] := hl
  obtain ⟨h1, h2, v, h3, h4⟩ := hs
  refine lv_aload_n hx hb dJ1_length_0 rfl (lv_at hl 0 rfl) ?_
  refine vk_getf hx hb h3 hS hown (hts _ q1262) (fun _ h => h) dJ1_length_1 ?_
  refine pr_tlen hx hb h4 hS dJ1_length_4 ?_
  refine lv_aload_n hx hb dJ1_length_5 rfl (lv_at hl 0 rfl) ?_
  have hs : pr_sT E.2.2.1 bs a s s.heap := ⟨h1, h2, v, h3, h4⟩
  refine pr_ci (pr_runV (As := []) (rest := [.int (Int32.ofNat bs.length)]) X (wk_J1_coder l E bs a ws) (lw_V q409 q410 q411 q106 q412) nd_J1_coder (by omega) (by omega) (pr_rcS hs hS) hP hD hS (pr_ss1 hs) rfl hl.1 rfl (Nat.le_of_ble_eq_true rfl) dJ1_length_6 ⟨Nat.le_refl _, Nat.le_refl _⟩) hS (fun _ H locs hP hD hS => ?_)
  refine lv_ishr hx hb dJ1_length_9 ?_
  rw [sb_shr0]
  exact pr_ri () X hP hD hS dJ1_length_10
theorem wk_J3_checkIndex (l : Launch) (E : pr_Env) (ws : va_W) (i n : Int32) (v : Value) (hv : v.category = 1) (h0 : ¬ i < 0) (h1 : i < n) : Met l yJ3_checkIndex (ws_ yJ3_checkIndex cJ3_checkIndex 3 (some .int)) ({ frames := 0, cells := 0, slots := 0, locals := 0 } : Room) (pr_P E [.int i, .int n, v] ws []) (pr_Qi E i (fun _ : Unit => ws)) 0 0 (pr_A E.2.2.1) := by
  refine pr_of (by decide) (by show (lg_sl [.int i, .int n, v]).length ≤ 3; unfold lg_sl; simp only [List.flatMap_cons, List.flatMap_nil, hv]; exact Nat.le_of_ble_eq_true rfl) ?_
  intro p e s m args below meth c X ls hl hP hD hss
  have hx := X.1
  have hb := X.2.1
  have hS : va_S (pr_A E.2.2.1) s.heap s.heap [] := va_S.rf
  have hl : lv_has ls 3 [(0, .int i), (1, .int n), (2, v)] := hl
  refine lv_iload_n hx hb dJ3_checkIndex_0 rfl (lv_at hl 0 rfl) ?_
  refine lv_if_lt (tgt := 9) hx hb dJ3_checkIndex_1 (by decide) (fun hc => absurd hc h0) (fun _ => ?_)
  refine lv_iload_n hx hb dJ3_checkIndex_4 rfl (lv_at hl 0 rfl) ?_
  refine lv_iload_n hx hb dJ3_checkIndex_5 rfl (lv_at hl 1 rfl) ?_
  refine lv_icmp_lt (tgt := 16) hx hb dJ3_checkIndex_6 (by decide) (fun _ => ?_) (fun hc => absurd h1 hc)
  refine lv_iload_n hx hb dJ3_checkIndex_16 rfl (lv_at hl 0 rfl) ?_
  exact pr_ri () X hP hD hS dJ3_checkIndex_17
theorem wk_J1_checkIndex (l : Launch) (E : pr_Env) (ws : va_W) (i n : Int32) (h0 : ¬ i < 0) (h1 : i < n) : Met l yJ1_checkIndex (ws_ yJ1_checkIndex cJ1_checkIndex 2 none) ({ frames := 1, cells := 0, slots := 0, locals := 22 } : Room) (pr_P E [.int i, .int n] ws []) (pr_Qv E (fun _ : Unit => ws)) 0 0 (pr_A E.2.2.1) := by
  refine pr_of (by decide) (Nat.le_of_ble_eq_true rfl) ?_
  intro p e s m args below meth c X ls hl hP hD hss
  have hx := X.1
  have hb := X.2.1
  have hown := X.2.2.2.2.2.1
  have hts := X.2.2.2.2.2.2.1
  have hS : va_S (pr_A E.2.2.1) s.heap s.heap [] := va_S.rf
  have hl : lv_has ls 2 [(0, .int i), (1, .int n)] := hl
  obtain ⟨-, -, -, -, -, -, -, -, h9, -⟩ := X.2.2.2.2.2.2.2
  refine lv_iload_n hx hb dJ1_checkIndex_0 rfl (lv_at hl 0 rfl) ?_
  refine lv_iload_n hx hb dJ1_checkIndex_1 rfl (lv_at hl 1 rfl) ?_
  rcases h9 with hZ | ⟨t, hZ⟩
  · refine va_gets hx hb hZ hS hown (hts _ q429) (fun _ h => h) dJ1_checkIndex_2 ?_
    refine pr_ci (pr_runS (As := [.int i, .int n, .null]) (rest := []) X (wk_J3_checkIndex l E ws i n .null rfl h0 h1) (lw_S q431 q432 q108 q433) nd_J3_checkIndex (by omega) (by omega) hP hD hS pr_ss0 rfl hl.1 rfl (Nat.le_of_ble_eq_true rfl) dJ1_checkIndex_5 ⟨Nat.le_refl _, Nat.le_refl _⟩) hS (fun _ H locs hP hD hS => ?_)
    refine lv_pop hx hb dJ1_checkIndex_8 rfl ?_
    exact pr_rv () X hP hD hS dJ1_checkIndex_9
  · refine va_gets hx hb hZ hS hown (hts _ q429) (fun _ h => h) dJ1_checkIndex_2 ?_
    refine pr_ci (pr_runS (As := [.int i, .int n, .ref t]) (rest := []) X (wk_J3_checkIndex l E ws i n (.ref t) rfl h0 h1) (lw_S q431 q432 q108 q433) nd_J3_checkIndex (by omega) (by omega) hP hD hS pr_ss0 rfl hl.1 rfl (Nat.le_of_ble_eq_true rfl) dJ1_checkIndex_5 ⟨Nat.le_refl _, Nat.le_refl _⟩) hS (fun _ H locs hP hD hS => ?_)
    refine lv_pop hx hb dJ1_checkIndex_8 rfl ?_
    exact pr_rv () X hP hD hS dJ1_checkIndex_9
/-- StringLatin1.charAt over a byte array that is never written -/
def pr_PT (E : pr_Env) (v : Nat) (bs : List Int32) (av : List Value) (ws : va_W) : Array Value → State → Prop :=
  va_Pc av (fun U => pr_E E U U.heap ∧ va_P E.1 pr_cl ws U.heap ∧ va_D (pr_A E.2.2.1) ws ∧ va_T .byte v bs.length (fun j => .int (bs.getD j 0)) (pr_A E.2.2.1) U U.heap)
theorem pr_char (x : Int32) : narrow .char (.int (x.toUInt32 % 65536).toInt32) = .int (x.toUInt32 % 65536).toInt32 := pk_nc x
theorem wk_J2_charAt (l : Launch) (E : pr_Env) (bs : List Int32) (v : Nat) (ws : va_W) (i : Int32) (hn : bs.length < 2 ^ 31) (hi : vp_in i bs.length) : Met l yJ2_charAt (ws_ yJ2_charAt cJ2_charAt 2 (some .char)) ({ frames := 2, cells := 0, slots := 0, locals := 43 } : Room) (pr_PT E v bs [.ref v, .int i] ws) (pr_Qi E ((bs.getD i.toNatClampNeg 0 &&& 255).toUInt32 % 65536).toInt32 (fun _ : Unit => ws)) 0 0 (pr_A E.2.2.1) := by
  refine Met.ofW (cc := cJ2_charAt) (maxL := 2) (ret := some .char) (by decide) rfl ?_
  intro p e s m args below meth c s₁ B hml hv
  obtain ⟨rfl, hE, hP, hD, hT⟩ := hv
  have hts := atoms_spec (ws := ws_ yJ2_charAt cJ2_charAt 2 (some .char)) B.pre
  have hts : ∀ w ∈ lw_all, w.before _ s = true := fun w h => hts w (List.mem_cons_of_mem _ h)
  have hl := lv_entry ([.ref v, .int i]) (n := 2) (Nat.le_of_ble_eq_true rfl)
  rw [lg_entry_eq]
  generalize (lg_sl ([.ref v, .int i]) ++ List.replicate (2 - (lg_sl ([.ref v, .int i])).length) Slot.unset).toArray = ls at hl ⊢
  have hl : lv_has ls 2 [(0, .ref v), (1, .int i)] := hl
  have X : pr_X p s m _ meth c cJ2_charAt 2 (some .char) yJ2_charAt.cls E := ⟨B.exec, B.bytes, B.returns, B.notSynchronized, hml, findClass_of_methodNamed B.named, hts, hE⟩
  have hx := X.1
  have hb := X.2.1
  have hS : va_S (pr_A E.2.2.1) s.heap s.heap [] := va_S.rf
  have h0 : ¬ i < 0 := fun q => hi (Or.inl q)
  have h1 : i < Int32.ofNat bs.length := by
    obtain ⟨j, hj, rfl⟩ := vp_in_of hi hn
    exact nI_lt hj hn
  refine lv_iload_n hx hb dJ2_charAt_0 rfl (lv_at hl 1 rfl) ?_
  refine lv_aload_n hx hb dJ2_charAt_1 rfl (lv_at hl 0 rfl) ?_
  refine pr_tlen hx hb hT hS dJ2_charAt_2 ?_
  refine pr_cv (pr_runS (As := [.int i, .int (Int32.ofNat bs.length)]) (rest := []) X (wk_J1_checkIndex l E ws i (Int32.ofNat bs.length) h0 h1) (lw_S q426 q427 q106 q428) nd_J1_checkIndex (by omega) (by omega) hP hD hS pr_ss0 rfl hl.1 rfl (Nat.le_of_ble_eq_true rfl) dJ2_charAt_3 ⟨Nat.le_refl _, Nat.le_refl _⟩) hS (fun _ H locs hP hD hS => ?_)
  refine lv_aload_n hx hb dJ2_charAt_6 rfl (lv_at hl 0 rfl) ?_
  refine lv_iload_n hx hb dJ2_charAt_7 rfl (lv_at hl 1 rfl) ?_
  refine va_tb hx hb hT hS hi rfl dJ2_charAt_8 ?_
  refine lv_sipush (v := 255) hx hb dJ2_charAt_9 (by decide) ?_
  refine lv_iand hx hb dJ2_charAt_12 ?_
  refine lv_i2c (v := ((bs.getD i.toNatClampNeg 0 &&& 255).toUInt32 % 65536).toInt32) hx hb dJ2_charAt_13 rfl ?_
  exact pr_rz () X (pr_char _) hP hD hS dJ2_charAt_14
theorem wk_J1_charAt (l : Launch) (E : pr_Env) (bs : List Int32) (a : Nat) (ws : va_W) (i r : Int32) (h : J_charAt bs i = some r) : Met l yJ1_charAt (ws_ yJ1_charAt cJ1_charAt 2 (some .char)) ({ frames := 5, cells := 0, slots := 0, locals := 140 } : Room) (pr_P E [.ref a, .int i] ws [(bs, a)]) (pr_Qi E r (fun _ : Unit => ws)) 0 0 (pr_A E.2.2.1) := by
  unfold J_charAt at h
  split at h
  case isFalse => cases h
  rename_i hn1
  obtain ⟨hi, h⟩ := pr_ib_e h
  cases h
  refine pr_of (by decide) (Nat.le_of_ble_eq_true rfl) ?_
  intro p e s m args below meth c X ls hl hP hD hss
  have hx := X.1
  have hb := X.2.1
  have hown := X.2.2.2.2.2.1
  have hts := X.2.2.2.2.2.2.1
  have hE := X.2.2.2.2.2.2.2
  have hs : pr_sT E.2.2.1 bs a s s.heap := hss (bs, a) List.mem_cons_self
  have hS : va_S (pr_A E.2.2.1) s.heap s.heap [] := va_S.rf
  have hl : lv_has ls 2 [(0, .ref a), (1, .int i)] := hl
  refine lv_aload_n hx hb dJ1_charAt_0 rfl (lv_at hl 0 rfl) ?_
  refine pr_ci (pr_runV (As := []) (rest := []) X (wk_J1_isLatin1 l E bs a ws) (lw_V q419 q420 q421 q106 q422) nd_J1_isLatin1 (by omega) (by omega) (pr_rcS hs hS) hP hD hS (pr_ss1 hs) rfl hl.1 rfl (Nat.le_of_ble_eq_true rfl) dJ1_charAt_1 ⟨Nat.le_refl _, Nat.le_refl _⟩) hS (fun _ H locs hP hD hS => ?_)
  refine lv_if_eq (tgt := 16) hx hb dJ1_charAt_4 (by decide) (fun hc => absurd hc (by decide)) (fun _ => ?_)
  obtain ⟨h1, h2, v, h3, h4⟩ := hs
  refine lv_aload_n hx hb dJ1_charAt_7 rfl (lv_at hl 0 rfl) ?_
  refine vk_getf hx hb h3 hS hown (hts _ q1262) (fun _ h => h) dJ1_charAt_8 ?_
  refine lv_iload_n hx hb dJ1_charAt_11 rfl (lv_at hl 1 rfl) ?_
  have hn : bs.length < 2 ^ 31 := by omega
  refine pr_ci (va_runS (As := [.ref v, .int i]) (rest := []) (pr_fix X) (wk_J2_charAt l E bs v ws i hn hi) (va_cwS 2 hts (lw_S q423 q424 q107 q425) rfl rfl rfl nd_J2_charAt ⟨Nat.le_of_ble_eq_true rfl, Nat.le_of_ble_eq_true rfl⟩) ⟨?_, fun U hU hW => ⟨rfl, hE.go hS hU hW, by rw [hU]; exact hP, hD, va_T.moved hW.alike (h4.kept (fun a h1 h2 => by rw [hU]; exact hS.2.1 a h1 h2))⟩⟩ rfl rfl hl.1 rfl (lv_room (Nat.le_of_ble_eq_true rfl)) dJ1_charAt_12 ⟨Nat.le_refl _, Nat.le_refl _⟩) hS (fun _ H locs hP hD hS => ?_)
  · intro a U g mk h
    obtain ⟨h1, h2, h3, h4, h5⟩ := h
    exact ⟨h1, pr_E.same h2 rfl rfl, h3, h4, va_T.moved (u := U) (U := U.calling g mk a) (Vm.Alike.refl U.vm) h5⟩
  exact pr_rz () X (pr_char _) hP hD hS dJ1_charAt_15
