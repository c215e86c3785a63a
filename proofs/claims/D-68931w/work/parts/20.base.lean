/-! ===== the frame of all walks: one world, one region, contracts out of plain functions ===== -/
/-- classes' numbers and slots; the array classes; the first address of what is made; the tokens' addresses; the strings' addresses -/
abbrev pr_Env : Type := va_G × (Nat → ClassId) × Nat × (Nat → Nat) × (Nat → Nat)
def pr_A (B : Nat) : Nat → Prop := fun q => B ≤ q
abbrev pr_cl : List vw_C := [(RX0, TX0, 8), (RX1, TX1, 2), (RX2, TX2, 4), (RX3, TX3, 5), (RX4, TX4, 5), (RX5, TX5, 8), (RX7, TX7, 3), (RX8, TX8, 32)]
abbrev pr_tys (t : Nat → ClassId) : List (ClassId × FieldType) := [(t 0, .int), (t 1, .byte), (t 2, .object "ProgramReader$Token"), (t 3, .object "java/lang/String")]
/-- a String of these bytes stands at a, and is never written -/
def pr_sT (B : Nat) (bs : List Int32) (a : Nat) (U : State) (H : Heap) : Prop :=
  va_O "java/lang/String" a (pr_A B) U H ∧ va_OF "java/lang/String" "coder" "B" (.int 0) a (pr_A B) U H ∧
    ∃ v, va_OF "java/lang/String" "value" "[B" (.ref v) a (pr_A B) U H ∧ va_T .byte v bs.length (fun j => .int (bs.getD j 0)) (pr_A B) U H
theorem pr_sT.moved {B : Nat} {bs : List Int32} {a : Nat} {u U : State} {H : Heap} (hvm : u.vm.Alike U.vm) (h : pr_sT B bs a u H) : pr_sT B bs a U H := by
  obtain ⟨h1, h2, v, h3, h4⟩ := h
  exact ⟨va_O.moved hvm h1, va_OF.moved hvm h2, v, va_OF.moved hvm h3, va_T.moved hvm h4⟩
theorem pr_sT.kept {B : Nat} {bs : List Int32} {a : Nat} {U : State} {H H1 : Heap} (h : pr_sT B bs a U H) (hq : ∀ a : Nat, a < H.size → ¬ pr_A B a → H1[a]? = H[a]?) : pr_sT B bs a U H1 := by
  obtain ⟨h1, h2, v, h3, h4⟩ := h
  exact ⟨h1.kept hq, h2.kept hq, v, h3.kept hq, h4.kept hq⟩
/-- the enum's constants: names in order -/
def pr_tk : List String := ["END", "WRONG", "NAME", "NUMBER", "OPEN", "CLOSE", "BEGIN", "FINISH", "FROM", "TO", "COMMA", "STOP", "BECOMES", "PLUS", "MINUS", "TIMES", "OVER", "REST", "LESS", "MOST", "MORE", "LEAST", "SAME", "OTHER", "BOTH", "EITHER", "NOT", "FUN", "VAR", "IF", "ELSE", "WHILE", "ASSERT", "RETURN", "ANY"]
/-- .. and their letters -/
def pr_tb : List (List Int32) := [[], [], [], [], [40], [41], [123], [125], [91], [93], [44], [59], [61], [43], [45], [42], [47], [37], [60], [60, 61], [62], [62, 61], [61, 61], [33, 61], [38, 38], [124, 124], [33], [102, 117, 110], [118, 97, 114], [105, 102], [101, 108, 115, 101], [119, 104, 105, 108, 101], [97, 115, 115, 101, 114, 116], [114, 101, 116, 117, 114, 110], [97, 110, 121]]
/-- String constants by place: whose, entry, text, bytes -/
def pr_sl : List (String × Nat × String × List Int32) := [("ProgramReaderModel", 79, "fun", [102, 117, 110]), ("ProgramReaderModel", 81, "var", [118, 97, 114]), ("ProgramReaderModel", 83, "if", [105, 102]), ("ProgramReaderModel", 85, "else", [101, 108, 115, 101]), ("ProgramReaderModel", 87, "while", [119, 104, 105, 108, 101]), ("ProgramReaderModel", 89, "assert", [97, 115, 115, 101, 114, 116]), ("ProgramReaderModel", 91, "return", [114, 101, 116, 117, 114, 110]), ("ProgramReaderModel", 93, "any", [97, 110, 121]), ("ProgramReaderModel", 271, "+", [43]), ("ProgramReaderModel", 273, "-", [45]), ("ProgramReaderModel", 275, "*", [42]), ("ProgramReaderModel", 277, "/", [47]), ("ProgramReaderModel", 279, "%", [37]), ("ProgramReaderModel", 281, "<", [60]), ("ProgramReaderModel", 283, "<=", [60, 61]), ("ProgramReaderModel", 285, ">", [62]), ("ProgramReaderModel", 287, ">=", [62, 61]), ("ProgramReaderModel", 289, "==", [61, 61]), ("ProgramReaderModel", 291, "!=", [33, 61]), ("ProgramReaderModel", 318, "||", [124, 124]), ("ProgramReaderModel", 320, "&&", [38, 38]), ("ProgramReader$Writer", 76, "-", [45]), ("ProgramReader$Writer", 100, "[", [91]), ("ProgramReader$Writer", 102, "(", [40]), ("ProgramReader$Writer", 104, "]", [93]), ("ProgramReader$Writer", 106, ")", [41]), ("ProgramReader$Writer", 108, "+", [43]), ("ProgramReader$Writer", 114, "*", [42]), ("ProgramReader$Writer", 116, "/", [47]), ("ProgramReader$Writer", 118, "%", [37]), ("ProgramReader$Writer", 120, "<", [60]), ("ProgramReader$Writer", 122, "<=", [60, 61]), ("ProgramReader$Writer", 124, ">", [62]), ("ProgramReader$Writer", 126, ">=", [62, 61]), ("ProgramReader$Writer", 128, "==", [61, 61]), ("ProgramReader$Writer", 130, "!=", [33, 61]), ("ProgramReader$Writer", 141, "any", [97, 110, 121]), ("ProgramReader$Writer", 143, ",", [44]), ("ProgramReader$Writer", 152, "||", [124, 124]), ("ProgramReader$Writer", 154, "&&", [38, 38]), ("ProgramReader$Writer", 156, "!", [33]), ("ProgramReader$Writer", 171, "{", [123]), ("ProgramReader$Writer", 173, "}", [125]), ("ProgramReader$Writer", 175, "if(", [105, 102, 40]), ("ProgramReader$Writer", 177, "else", [101, 108, 115, 101]), ("ProgramReader$Writer", 179, "while(", [119, 104, 105, 108, 101, 40]), ("ProgramReader$Writer", 184, ";", [59]), ("ProgramReader$Writer", 186, "fun", [102, 117, 110]), ("ProgramReader$Writer", 188, "var", [118, 97, 114]), ("ProgramReader$Writer", 190, "=", [61]), ("ProgramReader$Writer", 192, "assert(", [97, 115, 115, 101, 114, 116, 40]), ("ProgramReader$Writer", 194, "return", [114, 101, 116, 117, 114, 110]), ("ProgramReader$Reader", 31, "it can't stand there", [105, 116, 32, 99, 97, 110, 39, 116, 32, 115, 116, 97, 110, 100, 32, 116, 104, 101, 114, 101])]
/-- links of nest mates -/
def pr_nf : List (String × Nat × String × String × String × String) := [("ProgramReader", 68, "ProgramReader$Bytes", "size", "I", "ProgramReader"), ("ProgramReader", 87, "ProgramReader$Tree", "count", "I", "ProgramReader"), ("ProgramReader", 96, "ProgramReader$Tree", "kinds", "[B", "ProgramReader"), ("ProgramReader", 100, "ProgramReader$Tree", "places", "[I", "ProgramReader"), ("ProgramReader", 104, "ProgramReader$Tree", "values", "[I", "ProgramReader"), ("ProgramReader", 107, "ProgramReader$Tree", "sizes", "[I", "ProgramReader"), ("ProgramReader", 121, "ProgramReader$Names", "count", "I", "ProgramReader"), ("ProgramReader$Names", 59, "ProgramReader$Bytes", "size", "I", "ProgramReader"), ("ProgramReader$Reader", 22, "ProgramReader$Tokens", "place", "I", "ProgramReader"), ("ProgramReader$Reader", 42, "ProgramReader$Tokens", "token", "LProgramReader$Token;", "ProgramReader"), ("ProgramReader$Reader", 58, "ProgramReader$Tokens", "bytes", "LProgramReader$Bytes;", "ProgramReader"), ("ProgramReader$Reader", 62, "ProgramReader$Tokens", "length", "I", "ProgramReader"), ("ProgramReader$Reader", 84, "ProgramReader$Tokens", "value", "I", "ProgramReader"), ("ProgramReader$Reader", 100, "ProgramReader$Tree", "count", "I", "ProgramReader"), ("ProgramReader$Reader", 109, "ProgramReader$Tree", "places", "[I", "ProgramReader"), ("ProgramReader$Reader", 117, "ProgramReader$Tree", "kinds", "[B", "ProgramReader"), ("ProgramReader$Reader", 239, "ProgramReader$Names", "count", "I", "ProgramReader"), ("ProgramReader$Tokens", 99, "ProgramReader$Token", "letters", "Ljava/lang/String;", "ProgramReader"), ("ProgramReader$Writer", 28, "ProgramReader$Bytes", "size", "I", "ProgramReader"), ("ProgramReader$Writer", 61, "ProgramReader$Tree", "values", "[I", "ProgramReader"), ("ProgramReader$Writer", 87, "ProgramReader$Tree", "sizes", "[I", "ProgramReader"), ("ProgramReader$Writer", 96, "ProgramReader$Tree", "kinds", "[B", "ProgramReader")]
def pr_nm : List (String × Nat × MethodName × String) := [("ProgramReader", 15, ⟨"ProgramReader$Bytes", "<init>", "()V"⟩, "ProgramReader"), ("ProgramReader", 30, ⟨"ProgramReader$Names", "<init>", "()V"⟩, "ProgramReader"), ("ProgramReader$Names", 9, ⟨"ProgramReader$Bytes", "<init>", "()V"⟩, "ProgramReader"), ("ProgramReader$Names", 53, ⟨"ProgramReader", "grown", "([II)[I"⟩, "ProgramReader"), ("ProgramReader$Reader", 11, ⟨"ProgramReader$Tokens", "<init>", "()V"⟩, "ProgramReader"), ("ProgramReader$Tree", 42, ⟨"ProgramReader", "grown", "([II)[I"⟩, "ProgramReader"), ("ProgramReader$Writer", 15, ⟨"ProgramReader$Tokens", "begins", "(I)Z"⟩, "ProgramReader"), ("ProgramReader$Writer", 21, ⟨"ProgramReader$Tokens", "isDigit", "(I)Z"⟩, "ProgramReader")]
def pr_dc : List MethodName := [⟨"java/lang/Enum", "ordinal", "()I"⟩, ⟨"java/lang/Exception", "<init>", "()V"⟩, ⟨"java/lang/Exception", "<init>", "(Ljava/lang/String;)V"⟩, ⟨"java/lang/RuntimeException", "<init>", "()V"⟩, ⟨"java/lang/RuntimeException", "<init>", "(Ljava/lang/String;)V"⟩, ⟨"java/lang/Throwable", "<init>", "()V"⟩, ⟨"java/lang/Throwable", "<init>", "(Ljava/lang/String;)V"⟩]
/-- what holds all through: classes, the region's first address, String constants, the enum's constants, nest mates' links, statics -/
def pr_E (E : pr_Env) (U : State) (H : Heap) : Prop :=
  va_K E.1 pr_cl (pr_tys E.2.1) U ∧ E.2.2.1 ≤ H.size ∧
  (∀ i, i < 53 → vk_R (pr_sl.getD i ("", 0, "", [])).1 (pr_sl.getD i ("", 0, "", [])).2.1 (pr_sl.getD i ("", 0, "", [])).2.2.1 (E.2.2.2.2 i) U ∧ pr_sT E.2.2.1 (pr_sl.getD i ("", 0, "", [])).2.2.2 (E.2.2.2.2 i) U H) ∧
  (∀ i, i < 35 → va_Z "ProgramReader$Token" (pr_tk.getD i "") "LProgramReader$Token;" (.ref (E.2.2.2.1 i)) (pr_A E.2.2.1) U H ∧ va_O "ProgramReader$Token" (E.2.2.2.1 i) (pr_A E.2.2.1) U H ∧
    va_OF "java/lang/Enum" "ordinal" "I" (.int (Int32.ofNat i)) (E.2.2.2.1 i) (pr_A E.2.2.1) U H ∧
    ∃ a, va_OF "ProgramReader$Token" "letters" "Ljava/lang/String;" (.ref a) (E.2.2.2.1 i) (pr_A E.2.2.1) U H ∧ pr_sT E.2.2.1 (pr_tb.getD i []) a U H) ∧
  (∀ i j, i < 35 → j < 35 → E.2.2.2.1 i = E.2.2.2.1 j → i = j) ∧
  (∀ q ∈ pr_nf, va_Nw (.fieldLinkNest q.1 q.2.1 q.2.2.1 q.2.2.2.1 q.2.2.2.2.1 q.2.2.2.2.2) U) ∧
  (∀ q ∈ pr_nm, va_Nw (.methodLinkNest q.1 q.2.1 q.2.2.1 q.2.2.2) U) ∧
  va_Z "java/lang/String" "COMPACT_STRINGS" "Z" (.int 1) (pr_A E.2.2.1) U H ∧
  va_Zq "jdk/internal/util/Preconditions" "SIOOBE_FORMATTER" "Ljava/util/function/BiFunction;" (pr_A E.2.2.1) U H ∧
  va_Nw (.castable "java/lang/IllegalStateException" "java/lang/IllegalStateException") U ∧ va_Nw (.castable "[LProgramReader$Token;" "java/lang/Cloneable") U ∧ (∀ x ∈ pr_dc, va_Nw (.declares x) U) ∧
  vx_Zq Bundle.tN "UNASSIGNED_STACK" Bundle.steD (pr_A E.2.2.1) U H ∧ vx_Zq Bundle.tN "SUPPRESSED_SENTINEL" Bundle.listD (pr_A E.2.2.1) U H ∧
  va_AO "ProgramReader$Token" U ∧ va_AO "java/lang/String" U
theorem pr_E.go {E : pr_Env} {s U : State} {H : Heap} {locs : List Loc} (h : pr_E E s s.heap) (hS : va_S (pr_A E.2.2.1) s.heap H locs) (hU : U.heap = H) (hW : s.WarmedH U.vm) : pr_E E U U.heap := by
  obtain ⟨h1, h2, h3, h4, h5, h6, h7, h8, h9, h10, h11, h12, h13, h14, h15, h16⟩ := h
  have hq : ∀ a : Nat, a < s.heap.size → ¬ pr_A E.2.2.1 a → U.heap[a]? = s.heap[a]? := fun a b c => by rw [hU]; exact hS.2.1 a b c
  have hA := hW.alike
  refine ⟨va_K.moved hA h1, by rw [hU]; exact Nat.le_trans h2 hS.1, fun i hi => ⟨vk_R.warm hW (h3 i hi).1, ((h3 i hi).2.kept hq).moved hA⟩, fun i hi => ?_, h5, fun q hq => va_Nw.warmF hW (h6 q hq), fun q hq => va_Nw.warmM hW (h7 q hq), va_Z.moved hA (h8.kept hq), va_Zq.moved hA (h9.kept hq), va_Nw.warmC hW h10, va_Nw.warmC hW h11, fun x hx => va_Nw.warmD hW (h12 x hx), vx_Zq.moved hA (h13.kept hq), vx_Zq.moved hA (h14.kept hq), va_AO.moved hA h15, va_AO.moved hA h16⟩
  obtain ⟨g1, g2, g3, a, g4, g5⟩ := h4 i hi
  exact ⟨va_Z.moved hA (g1.kept hq), va_O.moved hA (g2.kept hq), va_OF.moved hA (g3.kept hq), a, va_OF.moved hA (g4.kept hq), (g5.kept hq).moved hA⟩
theorem pr_E.same {E : pr_Env} {u U : State} (h : pr_E E u u.heap) (hh : U.heap = u.heap) (hv : u.vm = U.vm) : pr_E E U U.heap := by
  refine pr_E.go (locs := []) h (va_S.rf) hh ?_
  rw [← hv]
  exact State.WarmedH.refl u
/-- a contract's start: the arguments, the cells ws, Strings among the arguments -/
def pr_P (E : pr_Env) (av : List Value) (ws : va_W) (ss : List (List Int32 × Nat)) : Array Value → State → Prop :=
  va_Pc av (fun U => pr_E E U U.heap ∧ va_P E.1 pr_cl ws U.heap ∧ va_D (pr_A E.2.2.1) ws ∧ ∀ q ∈ ss, pr_sT E.2.2.1 q.1 q.2 U U.heap)
theorem pr_P.blind {E : pr_Env} {av : List Value} {ws : va_W} {ss : List (List Int32 × Nat)} : FrameBlind (pr_P E av ws ss) := by
  intro a U g mk h
  obtain ⟨h1, h2, h3, h4, h5⟩ := h
  exact ⟨h1, pr_E.same h2 rfl rfl, h3, h4, fun q hq => pr_sT.moved (u := U) (U := U.calling g mk a) (Vm.Alike.refl U.vm) (h5 q hq)⟩
/-- its end: nothing, an int, a String -/
def pr_Qv {S : Type} (E : pr_Env) (ws : S → va_W) : Array Value → State → Outcome → State → Prop :=
  va_Qv (fun _ : S => True) (fun u t => va_P E.1 pr_cl (ws u) t.heap ∧ va_D (pr_A E.2.2.1) (ws u)) (pr_A E.2.2.1)
def pr_Qi {S : Type} (E : pr_Env) (r : Int32) (ws : S → va_W) : Array Value → State → Outcome → State → Prop :=
  va_Qi (fun (x : Int32) (_ : S) => x = r) (fun u t => va_P E.1 pr_cl (ws u) t.heap ∧ va_D (pr_A E.2.2.1) (ws u)) (pr_A E.2.2.1)
def pr_Qs {S : Type} (E : pr_Env) (bs : List Int32) (ws : S → va_W) : Array Value → State → Outcome → State → Prop :=
  va_Qr (fun _ : S => True) (fun u a t => va_P E.1 pr_cl (ws u) t.heap ∧ va_D (pr_A E.2.2.1) (ws u) ∧ pr_sT E.2.2.1 bs a t t.heap) (pr_A E.2.2.1)
/-- what a walk knows of its method all through -/
def pr_X (p : Program) (s : State) (m : MethodId) (args : Array Value) (meth : Method) (c : Code) (cc : ByteArray) (nL : Nat) (ret : Option FieldType) (own : String) (E : pr_Env) : Prop :=
  p.tables.exec = Jvm.exec ∧ c.code = cc ∧ meth.sig.returnType = ret ∧ meth.locks = false ∧ c.maxLocals = nL ∧ s.vm.findClass own = some m.cls ∧ (∀ w ∈ lw_all, w.before args s = true) ∧ pr_E E s s.heap
theorem pr_of {l : Launch} {E : pr_Env} {y : MethodName} {b : ByteArray} {nL : Nat} {ret : Option FieldType} {rm : Room} {av : List Value} {ws : va_W} {ss : List (List Int32 × Nat)} {Qc : Array Value → State → Outcome → State → Prop} {mc ms : Nat} (hy : plainName y.cls = true) (hn : (lg_sl av).length ≤ nL)
    (body : ∀ (p : Program) (e : Env) (s : State) (m : MethodId) (args : Array Value) (below : List Frame) (meth : Method) (c : Code), pr_X p s m args meth c b nL ret y.cls E → ∀ (ls : Array Slot), lv_has ls nL (lv_args 0 av) → va_P E.1 pr_cl ws s.heap → va_D (pr_A E.2.2.1) ws → (∀ q ∈ ss, pr_sT E.2.2.1 q.1 q.2 s s.heap) →
      W p l e rm s m args below meth c s.heap [] 0 0 (MQ below Qc args s mc ms (pr_A E.2.2.1)) (F0 m 0 ls [])) :
    Met l y (ws_ y b nL ret) rm (pr_P E av ws ss) Qc mc ms (pr_A E.2.2.1) := by
  refine Met.ofW (cc := b) (maxL := nL) (ret := ret) hy rfl ?_
  intro p e s m args below meth c s₁ B hml hv
  obtain ⟨rfl, hE, hP, hD, hss⟩ := hv
  have hts := atoms_spec (ws := ws_ y b nL ret) B.pre
  have hts : ∀ w ∈ lw_all, w.before _ s = true := fun w h => hts w (List.mem_cons_of_mem _ h)
  have hl := lv_entry av (n := nL) hn
  rw [lg_entry_eq]
  exact body p e s m _ below meth c ⟨B.exec, B.bytes, B.returns, B.notSynchronized, hml, findClass_of_methodNamed B.named, hts, hE⟩ _ hl hP hD hss
/-! plain combinators -/
def pr_b {α ρ : Type} (x : α) (k : α → Option ρ) : Option ρ := k x
def pr_b0 {α ρ : Type} (o : Option α) (k : α → Option ρ) : Option ρ := match o with
  | none => none
  | some a => k a
def pr_b2 {α β ρ : Type} (o : Option (α × β)) (k : α → β → Option ρ) : Option ρ := match o with
  | none => none
  | some (a, b) => k a b
def pr_b3 {α β γ ρ : Type} (o : Option (α × β × γ)) (k : α → β → γ → Option ρ) : Option ρ := match o with
  | none => none
  | some (a, b, c) => k a b c
def pr_b4 {α β γ δ ρ : Type} (o : Option (α × β × γ × δ)) (k : α → β → γ → δ → Option ρ) : Option ρ := match o with
  | none => none
  | some (a, b, c, d) => k a b c d
def pr_ib {ρ : Type} (i : Int32) (n : Nat) (k : Option ρ) : Option ρ := if i < 0 ∨ n ≤ i.toNatClampNeg then none else k
def pr_nz {ρ : Type} (y : Int32) (k : Option ρ) : Option ρ := if y = 0 then none else k
def pr_nzl {ρ : Type} (y : Int64) (k : Option ρ) : Option ρ := if y = 0 then none else k
def pr_zb {ρ : Type} (v : Int32) (k : Option ρ) : Option ρ := if v = 0 ∨ v = 1 then k else none
theorem pr_b0_e {α ρ : Type} {o : Option α} {k : α → Option ρ} {r : ρ} (h : pr_b0 o k = some r) : ∃ a, o = some a ∧ k a = some r := by
  cases o with
  | none => cases h
  | some a => exact ⟨a, rfl, h⟩
theorem pr_b2_e {α β ρ : Type} {o : Option (α × β)} {k : α → β → Option ρ} {r : ρ} (h : pr_b2 o k = some r) : ∃ a b, o = some (a, b) ∧ k a b = some r := by
  cases o with
  | none => cases h
  | some a => obtain ⟨a, b⟩ := a; exact ⟨a, b, rfl, h⟩
theorem pr_b3_e {α β γ ρ : Type} {o : Option (α × β × γ)} {k : α → β → γ → Option ρ} {r : ρ} (h : pr_b3 o k = some r) : ∃ a b c, o = some (a, b, c) ∧ k a b c = some r := by
  cases o with
  | none => cases h
  | some a => obtain ⟨a, b, c⟩ := a; exact ⟨a, b, c, rfl, h⟩
theorem pr_b4_e {α β γ δ ρ : Type} {o : Option (α × β × γ × δ)} {k : α → β → γ → δ → Option ρ} {r : ρ} (h : pr_b4 o k = some r) : ∃ a b c d, o = some (a, b, c, d) ∧ k a b c d = some r := by
  cases o with
  | none => cases h
  | some a => obtain ⟨a, b, c, d⟩ := a; exact ⟨a, b, c, d, rfl, h⟩
theorem pr_ib_e {ρ : Type} {i : Int32} {n : Nat} {k : Option ρ} {r : ρ} (h : pr_ib i n k = some r) : vp_in i n ∧ k = some r := by
  unfold pr_ib at h
  split at h
  · cases h
  · next hc => exact ⟨hc, h⟩
theorem pr_nz_e {ρ : Type} {y : Int32} {k : Option ρ} {r : ρ} (h : pr_nz y k = some r) : ¬ y = 0 ∧ k = some r := by
  unfold pr_nz at h
  split at h
  · cases h
  · next hc => exact ⟨hc, h⟩
theorem pr_nzl_e {ρ : Type} {y : Int64} {k : Option ρ} {r : ρ} (h : pr_nzl y k = some r) : ¬ y = 0 ∧ k = some r := by
  unfold pr_nzl at h
  split at h
  · cases h
  · next hc => exact ⟨hc, h⟩
theorem pr_zb_e {ρ : Type} {v : Int32} {k : Option ρ} {r : ρ} (h : pr_zb v k = some r) : narrow .boolean (.int v) = .int v ∧ k = some r := by
  unfold pr_zb at h
  split at h
  · next hc =>
    refine ⟨?_, h⟩
    rcases hc with rfl | rfl <;> rfl
  · cases h
theorem pr_t {ρ : Type} {c : Prop} [Decidable c] {A B r : ρ} (h : (if c then A else B) = r) (hc : c) : A = r := by
  rw [if_pos hc] at h
  exact h
theorem pr_f {ρ : Type} {c : Prop} [Decidable c] {A B r : ρ} (h : (if c then A else B) = r) (hc : ¬ c) : B = r := by
  rw [if_neg hc] at h
  exact h
/-- a loop by fuel -/
def wh {S R : Type} (step : S → Option (S ⊕ R)) : Nat → S → Option R
  | 0, _ => none
  | n + 1, s => match step s with
    | none => none
    | some (.inl s') => wh step n s'
    | some (.inr r) => some r
def pr_z {S R : Type} (f : S → Option R) (x : R) : S ⊕ R → Prop
  | .inl s => f s = some x
  | .inr r => r = x
theorem pr_wh_e {S R : Type} {step : S → Option (S ⊕ R)} {n : Nat} {s : S} {x : R} (h : wh step (n + 1) s = some x) : ∃ z, step s = some z ∧ pr_z (wh step n) x z := by
  unfold wh at h
  cases hs : step s with
  | none => rw [hs] at h; cases h
  | some z =>
    rw [hs] at h
    refine ⟨z, rfl, ?_⟩
    cases z with
    | inl s' => exact h
    | inr r => exact Option.some.inj h
theorem pr_wh_0 {S R : Type} {step : S → Option (S ⊕ R)} {s : S} {x : R} {P : Prop} (h : wh step 0 s = some x) : P := by
  cases h
section PRW
variable {p : Program} {l : Launch} {e : Env} {R : Room} {s : State} {m : MethodId} {args : Array Value} {below : List Frame} {meth : Method} {c : Code} {H : Heap} {locs : List Loc} {cells slots : Nat} {Q : State → Prop}
variable {cc : ByteArray} {nL pc : Nat} {ret : Option FieldType} {own : String} {E : pr_Env} {ls : Array Slot} {rest : List Value} {ws : va_W}
/-- name the int, the long on top -/
theorem pr_ti {ρ : Type} {x : Int32} {k : Int32 → Option ρ} {r : ρ} (h : pr_b x k = some r) (kk : ∀ y : Int32, k y = some r → W p l e R s m args below meth c H locs cells slots Q (F0 m pc ls (.int y :: rest))) : W p l e R s m args below meth c H locs cells slots Q (F0 m pc ls (.int x :: rest)) := kk x h
theorem pr_tl {ρ : Type} {x : Int64} {k : Int64 → Option ρ} {r : ρ} (h : pr_b x k = some r) (kk : ∀ y : Int64, k y = some r → W p l e R s m args below meth c H locs cells slots Q (F0 m pc ls (.long y :: rest))) : W p l e R s m args below meth c H locs cells slots Q (F0 m pc ls (.long x :: rest)) := kk x h
theorem pr_inc {ρ : Type} (X : pr_X p s m args meth c cc nL ret own E) {k : Int32 → Option ρ} {r : ρ} {i j : Nat} {n : Int} {x w : Int32} {lv : List (Nat × Value)} {lv' : Int32 → List (Nat × Value)} (hdg : decode cc pc = .ok (.iinc i n, 3)) (hl : lv_has ls nL lv) (hk : lv[j]? = some (i, .int x)) (hv : Int32.ofInt n = w) (hn : i < nL)
    (hlv : ∀ v : Int32, (i, Value.int v) :: lv.filter (fun q => !(q.1 == i) && !(q.1 + 1 == i && q.2.category == 2)) = lv' v) (h : pr_b (x + w) k = some r)
    (kk : ∀ (v : Int32) (ls' : Array Slot), k v = some r → lv_has ls' nL (lv' v) → W p l e R s m args below meth c H locs cells slots Q (F0 m (pc + 3) ls' rest)) : W p l e R s m args below meth c H locs cells slots Q (F0 m pc ls rest) :=
  lv_iinc (v := x + w) X.1 X.2.1 hdg hl hk (by rw [hv]) hn (hlv _) (fun ls' hl' => kk _ ls' h hl')
/-! returns -/
theorem pr_rv {S : Type} {ws' : S → va_W} (u : S) (X : pr_X p s m args meth c cc nL none own E) (hP : va_P E.1 pr_cl (ws' u) H) (hD : va_D (pr_A E.2.2.1) (ws' u)) (hS : va_S (pr_A E.2.2.1) s.heap H locs) (hdg : decode cc pc = .ok (.return_, 1)) :
    W p l e R s m args below meth c H locs cells slots (MQ below (pr_Qv E ws') args s cells slots (pr_A E.2.2.1)) (F0 m pc ls []) :=
  W.vret X.1 X.2.1 X.2.2.1 (fun t ht hW => ⟨⟨u, rfl, trivial, by rw [ht]; exact hP, hD⟩, hS.F ht⟩) hS.2.2 hdg X.2.2.2.1
theorem pr_ri {S : Type} {ws' : S → va_W} {v : Int32} (u : S) (X : pr_X p s m args meth c cc nL (some .int) own E) (hP : va_P E.1 pr_cl (ws' u) H) (hD : va_D (pr_A E.2.2.1) (ws' u)) (hS : va_S (pr_A E.2.2.1) s.heap H locs) (hdg : decode cc pc = .ok (.ireturn, 1)) :
    W p l e R s m args below meth c H locs cells slots (MQ below (pr_Qi E v ws') args s cells slots (pr_A E.2.2.1)) (F0 m pc ls [.int v]) :=
  W.iret X.1 X.2.1 X.2.2.1 (fun t ht hW => ⟨⟨v, u, rfl, rfl, by rw [ht]; exact hP, hD⟩, hS.F ht⟩) hS.2.2 hdg X.2.2.2.1
theorem pr_rz {S : Type} {ws' : S → va_W} {v : Int32} {ty : FieldType} (u : S) (X : pr_X p s m args meth c cc nL (some ty) own E) (hz : narrow ty (.int v) = .int v) (hP : va_P E.1 pr_cl (ws' u) H) (hD : va_D (pr_A E.2.2.1) (ws' u)) (hS : va_S (pr_A E.2.2.1) s.heap H locs) (hdg : decode cc pc = .ok (.ireturn, 1)) :
    W p l e R s m args below meth c H locs cells slots (MQ below (pr_Qi E v ws') args s cells slots (pr_A E.2.2.1)) (F0 m pc ls [.int v]) :=
  W.zret X.1 X.2.1 X.2.2.1 hz (fun t ht hW => ⟨⟨v, u, rfl, rfl, by rw [ht]; exact hP, hD⟩, hS.F ht⟩) hS.2.2 hdg X.2.2.2.1
theorem pr_rs {S : Type} {ws' : S → va_W} {a : Nat} {bs : List Int32} {rt : FieldType} (u : S) (X : pr_X p s m args meth c cc nL (some rt) own E) (hrt : (∃ n, rt = .object n) ∨ ∃ t, rt = .array t) (hs : pr_sT E.2.2.1 bs a s s.heap) (hP : va_P E.1 pr_cl (ws' u) H) (hD : va_D (pr_A E.2.2.1) (ws' u)) (hS : va_S (pr_A E.2.2.1) s.heap H locs) (hdg : decode cc pc = .ok (.areturn, 1)) :
    W p l e R s m args below meth c H locs cells slots (MQ below (pr_Qs E bs ws') args s cells slots (pr_A E.2.2.1)) (F0 m pc ls [.ref a]) :=
  W.aret X.1 X.2.1 X.2.2.1 hrt (Or.inr ⟨a, rfl⟩) (fun t ht hW => ⟨⟨u, a, rfl, trivial, by rw [ht]; exact hP, hD, (hs.kept (fun q h1 h2 => by rw [ht]; exact hS.2.1 q h1 h2)).moved hW.alike⟩, hS.F ht⟩) hS.2.2 hdg X.2.2.2.1
/-! calls: through an object, static -/
variable {y : MethodName} {b : ByteArray} {L2 n index mc ms F1 F2 G1 G2 c1 s1 : Nat} {ret2 : Option FieldType} {C : String} {a : Nat} {As : List Value} {ss : List (List Int32 × Nat)} {st : List Value}
theorem pr_pre (X : pr_X p s m args meth c cc nL ret own E) (hP : va_P E.1 pr_cl ws H) (hD : va_D (pr_A E.2.2.1) ws) (hS : va_S (pr_A E.2.2.1) s.heap H locs) (hss : ∀ q ∈ ss, pr_sT E.2.2.1 q.1 q.2 s s.heap) (av : List Value) :
    ∀ U : State, U.heap = H → s.WarmedH U.vm → pr_P E av ws ss av.toArray U := fun U hU hW =>
  ⟨rfl, X.2.2.2.2.2.2.2.go hS hU hW, by rw [hU]; exact hP, hD, fun q hq => ((hss q hq).kept (fun a h1 h2 => by rw [hU]; exact hS.2.1 a h1 h2)).moved hW.alike⟩
theorem pr_fix (X : pr_X p s m args meth c cc nL ret own E) : CallFix p m c cc nL s args lw_all own := ⟨X.1, X.2.1, X.2.2.2.2.1, X.2.2.2.2.2.1, X.2.2.2.2.2.2.1⟩
def pr_nd (y : MethodName) (n : Nat) : Prop := y.cls ≠ "java/lang/invoke/MethodHandle" ∧ y.cls ≠ "java/lang/invoke/VarHandle" ∧ (parseMethodDescriptor y.desc).map (fun d => d.parameters.length) = some n
theorem pr_runV {Qc : Array Value → State → Outcome → State → Prop} (X : pr_X p s m args meth c cc nL ret own E) (hM : Met l y (ws_ y b L2 ret2) ({ frames := F2, cells := mc, slots := ms, locals := G2 } : Room) (pr_P E (.ref a :: As) ws ss) Qc mc ms (pr_A E.2.2.1)) (hw : GoodIn lw_all (wsV own index y.cls y (ws_ y b L2 ret2))) (hnd : pr_nd y n)
    (hfr : F2 + 1 ≤ F1) (hlo : 8 + (L2 + 11) + G2 ≤ G1) (hrc : ∃ cell : Cell, H[a]? = some cell ∧ cell.vm.isStatics = false ∧ s.vm.findClass y.cls = some cell.cls)
    (hP : va_P E.1 pr_cl ws H) (hD : va_D (pr_A E.2.2.1) ws) (hS : va_S (pr_A E.2.2.1) s.heap H locs) (hss : ∀ q ∈ ss, pr_sT E.2.2.1 q.1 q.2 s s.heap) (hn : As.length = n) (hsz : ls.size = nL) (hst : st = As.reverse ++ .ref a :: rest) (hW : (rest.map fun v => v.category).sum ≤ 8) (hdg : decode cc pc = .ok (.invokevirtual index, 3)) (hf : cells + mc ≤ c1 ∧ slots + ms ≤ s1) :
    va_Run p l e ({ frames := F1, cells := c1, slots := s1, locals := G1 } : Room) s m args below meth c H locs cells slots mc ms (F0 m pc ls st) rest (Qc (Value.ref a :: As).toArray) (pr_A E.2.2.1) :=
  va_runV (As := As) (rest := rest) (pr_fix X) hM (cwV n X.2.2.2.2.2.2.1 hw rfl rfl rfl ⟨rfl, hnd⟩ ⟨hfr, hlo⟩) ⟨pr_P.blind, hrc, pr_pre X hP hD hS hss _⟩ rfl hn hsz hst (lv_room hW) hdg hf
theorem pr_runS {Qc : Array Value → State → Outcome → State → Prop} (X : pr_X p s m args meth c cc nL ret own E) (hM : Met l y (ws_ y b L2 ret2) ({ frames := F2, cells := mc, slots := ms, locals := G2 } : Room) (pr_P E As ws ss) Qc mc ms (pr_A E.2.2.1)) (hw : GoodIn lw_all (va_wsS own index y (ws_ y b L2 ret2))) (hnd : pr_nd y n)
    (hfr : F2 + 1 ≤ F1) (hlo : 8 + (L2 + 11) + G2 ≤ G1)
    (hP : va_P E.1 pr_cl ws H) (hD : va_D (pr_A E.2.2.1) ws) (hS : va_S (pr_A E.2.2.1) s.heap H locs) (hss : ∀ q ∈ ss, pr_sT E.2.2.1 q.1 q.2 s s.heap) (hn : As.length = n) (hsz : ls.size = nL) (hst : st = As.reverse ++ rest) (hW : (rest.map fun v => v.category).sum ≤ 8) (hdg : decode cc pc = .ok (.invokestatic index, 3)) (hf : cells + mc ≤ c1 ∧ slots + ms ≤ s1) :
    va_Run p l e ({ frames := F1, cells := c1, slots := s1, locals := G1 } : Room) s m args below meth c H locs cells slots mc ms (F0 m pc ls st) rest (Qc As.toArray) (pr_A E.2.2.1) :=
  va_runS (As := As) (rest := rest) (pr_fix X) hM (va_cwS n X.2.2.2.2.2.2.1 hw rfl rfl rfl hnd ⟨hfr, hlo⟩) ⟨pr_P.blind, pr_pre X hP hD hS hss _⟩ rfl hn hsz hst (lv_room hW) hdg hf
theorem pr_ci {S : Type} {ws' : S → va_W} {r : Int32} {av : Array Value} (hr : va_Run p l e R s m args below meth c H locs cells slots mc ms (F0 m pc ls st) rest (pr_Qi E r ws' av) (pr_A E.2.2.1)) (hS : va_S (pr_A E.2.2.1) s.heap H locs)
    (kk : ∀ (u : S) (H1 : Heap) (locs1 : List Loc), va_P E.1 pr_cl (ws' u) H1 → va_D (pr_A E.2.2.1) (ws' u) → va_S (pr_A E.2.2.1) s.heap H1 locs1 → W p l e R s m args below meth c H1 locs1 (cells + mc) (slots + ms) Q (F0 m (pc + 3) ls (.int r :: rest))) : W p l e R s m args below meth c H locs cells slots Q (F0 m pc ls st) :=
  va_calli hr hS (fun _ _ h => h) (fun _ h => h) (fun r1 u t H1 locs1 ht _ hp hB _ _ hS1 => by subst hp; subst ht; exact kk u _ locs1 hB.1 hB.2 hS1)
theorem pr_cv {S : Type} {ws' : S → va_W} {av : Array Value} (hr : va_Run p l e R s m args below meth c H locs cells slots mc ms (F0 m pc ls st) rest (pr_Qv E ws' av) (pr_A E.2.2.1)) (hS : va_S (pr_A E.2.2.1) s.heap H locs)
    (kk : ∀ (u : S) (H1 : Heap) (locs1 : List Loc), va_P E.1 pr_cl (ws' u) H1 → va_D (pr_A E.2.2.1) (ws' u) → va_S (pr_A E.2.2.1) s.heap H1 locs1 → W p l e R s m args below meth c H1 locs1 (cells + mc) (slots + ms) Q (F0 m (pc + 3) ls rest)) : W p l e R s m args below meth c H locs cells slots Q (F0 m pc ls st) :=
  va_callv hr hS (fun _ _ h => h) (fun _ h => h) (fun u t H1 locs1 ht _ hp hB _ _ hS1 => by subst ht; exact kk u _ locs1 hB.1 hB.2 hS1)
end PRW
theorem pr_sT.back {B : Nat} {bs : List Int32} {a : Nat} {s t : State} {locs : List Loc} (h : pr_sT B bs a t t.heap) (hS : va_S (pr_A B) s.heap t.heap locs) (hB : B ≤ s.heap.size) (hvm : s.vm.Alike t.vm) : pr_sT B bs a s s.heap :=
  (h.moved hvm.symm).kept (fun q _ h2 => (hS.2.1 q (Nat.lt_of_lt_of_le (Nat.not_le.mp h2) hB) h2).symm)
section PRV
variable {p : Program} {l : Launch} {e : Env} {R : Room} {s : State} {m : MethodId} {args : Array Value} {below : List Frame} {meth : Method} {c : Code} {H : Heap} {locs : List Loc} {cells slots : Nat} {Q : State → Prop}
variable {cc : ByteArray} {nL pc : Nat} {ret : Option FieldType} {own : String} {E : pr_Env} {ls : Array Slot} {rest : List Value} {ws : va_W} {st : List Value} {mc ms : Nat}
theorem pr_cs {S : Type} {ws' : S → va_W} {bs : List Int32} {av : Array Value} (X : pr_X p s m args meth c cc nL ret own E) (hr : va_Run p l e R s m args below meth c H locs cells slots mc ms (F0 m pc ls st) rest (pr_Qs E bs ws' av) (pr_A E.2.2.1)) (hS : va_S (pr_A E.2.2.1) s.heap H locs)
    (kk : ∀ (u : S) (a : Nat) (H1 : Heap) (locs1 : List Loc), pr_sT E.2.2.1 bs a s s.heap → va_P E.1 pr_cl (ws' u) H1 → va_D (pr_A E.2.2.1) (ws' u) → va_S (pr_A E.2.2.1) s.heap H1 locs1 → W p l e R s m args below meth c H1 locs1 (cells + mc) (slots + ms) Q (F0 m (pc + 3) ls (.ref a :: rest))) : W p l e R s m args below meth c H locs cells slots Q (F0 m pc ls st) :=
  va_callr hr hS (fun _ _ h => h) (fun _ h => h) (fun u a t H1 locs1 ht hvm hp hB _ _ hS1 => by subst ht; exact kk u a _ locs1 (hB.2.2.back hS1 X.2.2.2.2.2.2.2.2.1 hvm) hB.1 hB.2.1 hS1)
/-- a String constant by a wide index -/
theorem pr_ldcw (hexec : p.tables.exec = Jvm.exec) (hb : c.code = cc) {tx : String} {index q : Nat} (hown : s.vm.findClass own = some m.cls) (hZ : vk_R own index tx q s) (hdg : decode cc pc = .ok (.ldc_w index, 3))
    (k : W p l e R s m args below meth c H locs cells slots Q (F0 m (pc + 3) ls (.ref q :: rest))) : W p l e R s m args below meth c H locs cells slots Q (F0 m pc ls rest) := by
  intro T hT X
  obtain ⟨t, a1, b1⟩ := k T hT X
  refine ⟨t, ?_, b1⟩
  obtain ⟨k, cf, i, a', hk, hcf, hcp, -, hr, hev'⟩ := Cond.stringRef_spec (args := #[]) hown hZ.1
  cases hZ.2.symm.trans hev'
  obtain ⟨k', hk', he⟩ := X.warmed.alike.2.2 _ _ hk
  have hr' : k'.resolved[index]? = some (some (.string q)) := by
    rcases X.warmed.entry hk hk' index with h | ⟨h, -⟩
    · rw [h]; exact hr
    · rw [hr] at h; cases h
  have hcf' : k'.cf = some cf := by rw [he]; exact hcf
  subst hb
  jvm_step X.here [hexec, hdg, ldc_w.wp_string (e := e) (s := T) (f := F0 m pc ls rest) X.here.top hk' hcf' hcp hr']
  exact a1
end PRV
theorem pr_rcS {E : pr_Env} {bs : List Int32} {a : Nat} {s : State} {H : Heap} {locs : List Loc} (hs : pr_sT E.2.2.1 bs a s s.heap) (hS : va_S (pr_A E.2.2.1) s.heap H locs) : ∃ cell : Cell, H[a]? = some cell ∧ cell.vm.isStatics = false ∧ s.vm.findClass "java/lang/String" = some cell.cls := by
  obtain ⟨cell, h1, h2, h3, -⟩ := hs.1.kept hS.2.1
  exact ⟨cell, h1, h2, h3⟩
theorem pr_ss0 {B : Nat} {s : State} {H : Heap} : ∀ q ∈ ([] : List (List Int32 × Nat)), pr_sT B q.1 q.2 s H := fun _ h => nomatch h
theorem pr_ss1 {B : Nat} {s : State} {H : Heap} {bs : List Int32} {a : Nat} (h : pr_sT B bs a s H) : ∀ q ∈ [(bs, a)], pr_sT B q.1 q.2 s H := fun q hq => by
  rcases List.mem_cons.mp hq with e | e
  · rw [e]; exact h
  · cases e
/-- the reference's words -/
def m_w (j : Nat) : List Int32 := (pr_sl.getD j ("", 0, "", [])).2.2.2
theorem m_wt {E : pr_Env} {s : State} {i : Int32} (hE : pr_E E s s.heap) (hi : vp_in i 8) : pr_sT E.2.2.1 (m_w i.toNatClampNeg) (E.2.2.2.2 i.toNatClampNeg) s s.heap :=
  (hE.2.2.1 i.toNatClampNeg (Nat.lt_trans (Nat.not_le.mp fun q => hi (Or.inr q)) (by decide))).2
def J_length (bs : List Int32) : Option Int32 := some (Int32.ofNat bs.length)
def J_charAt (bs : List Int32) (i : Int32) : Option Int32 := if bs.length < 100 then pr_ib i bs.length (some ((bs.getD i.toNatClampNeg 0 &&& 255).toUInt32 % 65536).toInt32) else none
theorem pr_s0 {E : pr_Env} {U : State} {H : Heap} (h : pr_E E U H) : vk_R "ProgramReaderModel" 79 "fun" (E.2.2.2.2 0) U ∧ pr_sT E.2.2.1 [102, 117, 110] (E.2.2.2.2 0) U H := h.2.2.1 0 (by decide)
theorem pr_s1 {E : pr_Env} {U : State} {H : Heap} (h : pr_E E U H) : vk_R "ProgramReaderModel" 81 "var" (E.2.2.2.2 1) U ∧ pr_sT E.2.2.1 [118, 97, 114] (E.2.2.2.2 1) U H := h.2.2.1 1 (by decide)
theorem pr_s2 {E : pr_Env} {U : State} {H : Heap} (h : pr_E E U H) : vk_R "ProgramReaderModel" 83 "if" (E.2.2.2.2 2) U ∧ pr_sT E.2.2.1 [105, 102] (E.2.2.2.2 2) U H := h.2.2.1 2 (by decide)
theorem pr_s3 {E : pr_Env} {U : State} {H : Heap} (h : pr_E E U H) : vk_R "ProgramReaderModel" 85 "else" (E.2.2.2.2 3) U ∧ pr_sT E.2.2.1 [101, 108, 115, 101] (E.2.2.2.2 3) U H := h.2.2.1 3 (by decide)
theorem pr_s4 {E : pr_Env} {U : State} {H : Heap} (h : pr_E E U H) : vk_R "ProgramReaderModel" 87 "while" (E.2.2.2.2 4) U ∧ pr_sT E.2.2.1 [119, 104, 105, 108, 101] (E.2.2.2.2 4) U H := h.2.2.1 4 (by decide)
theorem pr_s5 {E : pr_Env} {U : State} {H : Heap} (h : pr_E E U H) : vk_R "ProgramReaderModel" 89 "assert" (E.2.2.2.2 5) U ∧ pr_sT E.2.2.1 [97, 115, 115, 101, 114, 116] (E.2.2.2.2 5) U H := h.2.2.1 5 (by decide)
theorem pr_s6 {E : pr_Env} {U : State} {H : Heap} (h : pr_E E U H) : vk_R "ProgramReaderModel" 91 "return" (E.2.2.2.2 6) U ∧ pr_sT E.2.2.1 [114, 101, 116, 117, 114, 110] (E.2.2.2.2 6) U H := h.2.2.1 6 (by decide)
theorem pr_s7 {E : pr_Env} {U : State} {H : Heap} (h : pr_E E U H) : vk_R "ProgramReaderModel" 93 "any" (E.2.2.2.2 7) U ∧ pr_sT E.2.2.1 [97, 110, 121] (E.2.2.2.2 7) U H := h.2.2.1 7 (by decide)
theorem pr_s8 {E : pr_Env} {U : State} {H : Heap} (h : pr_E E U H) : vk_R "ProgramReaderModel" 271 "+" (E.2.2.2.2 8) U ∧ pr_sT E.2.2.1 [43] (E.2.2.2.2 8) U H := h.2.2.1 8 (by decide)
theorem pr_s9 {E : pr_Env} {U : State} {H : Heap} (h : pr_E E U H) : vk_R "ProgramReaderModel" 273 "-" (E.2.2.2.2 9) U ∧ pr_sT E.2.2.1 [45] (E.2.2.2.2 9) U H := h.2.2.1 9 (by decide)
theorem pr_s10 {E : pr_Env} {U : State} {H : Heap} (h : pr_E E U H) : vk_R "ProgramReaderModel" 275 "*" (E.2.2.2.2 10) U ∧ pr_sT E.2.2.1 [42] (E.2.2.2.2 10) U H := h.2.2.1 10 (by decide)
theorem pr_s11 {E : pr_Env} {U : State} {H : Heap} (h : pr_E E U H) : vk_R "ProgramReaderModel" 277 "/" (E.2.2.2.2 11) U ∧ pr_sT E.2.2.1 [47] (E.2.2.2.2 11) U H := h.2.2.1 11 (by decide)
theorem pr_s12 {E : pr_Env} {U : State} {H : Heap} (h : pr_E E U H) : vk_R "ProgramReaderModel" 279 "%" (E.2.2.2.2 12) U ∧ pr_sT E.2.2.1 [37] (E.2.2.2.2 12) U H := h.2.2.1 12 (by decide)
theorem pr_s13 {E : pr_Env} {U : State} {H : Heap} (h : pr_E E U H) : vk_R "ProgramReaderModel" 281 "<" (E.2.2.2.2 13) U ∧ pr_sT E.2.2.1 [60] (E.2.2.2.2 13) U H := h.2.2.1 13 (by decide)
theorem pr_s14 {E : pr_Env} {U : State} {H : Heap} (h : pr_E E U H) : vk_R "ProgramReaderModel" 283 "<=" (E.2.2.2.2 14) U ∧ pr_sT E.2.2.1 [60, 61] (E.2.2.2.2 14) U H := h.2.2.1 14 (by decide)
theorem pr_s15 {E : pr_Env} {U : State} {H : Heap} (h : pr_E E U H) : vk_R "ProgramReaderModel" 285 ">" (E.2.2.2.2 15) U ∧ pr_sT E.2.2.1 [62] (E.2.2.2.2 15) U H := h.2.2.1 15 (by decide)
theorem pr_s16 {E : pr_Env} {U : State} {H : Heap} (h : pr_E E U H) : vk_R "ProgramReaderModel" 287 ">=" (E.2.2.2.2 16) U ∧ pr_sT E.2.2.1 [62, 61] (E.2.2.2.2 16) U H := h.2.2.1 16 (by decide)
theorem pr_s17 {E : pr_Env} {U : State} {H : Heap} (h : pr_E E U H) : vk_R "ProgramReaderModel" 289 "==" (E.2.2.2.2 17) U ∧ pr_sT E.2.2.1 [61, 61] (E.2.2.2.2 17) U H := h.2.2.1 17 (by decide)
theorem pr_s18 {E : pr_Env} {U : State} {H : Heap} (h : pr_E E U H) : vk_R "ProgramReaderModel" 291 "!=" (E.2.2.2.2 18) U ∧ pr_sT E.2.2.1 [33, 61] (E.2.2.2.2 18) U H := h.2.2.1 18 (by decide)
theorem pr_s19 {E : pr_Env} {U : State} {H : Heap} (h : pr_E E U H) : vk_R "ProgramReaderModel" 318 "||" (E.2.2.2.2 19) U ∧ pr_sT E.2.2.1 [124, 124] (E.2.2.2.2 19) U H := h.2.2.1 19 (by decide)
theorem pr_s20 {E : pr_Env} {U : State} {H : Heap} (h : pr_E E U H) : vk_R "ProgramReaderModel" 320 "&&" (E.2.2.2.2 20) U ∧ pr_sT E.2.2.1 [38, 38] (E.2.2.2.2 20) U H := h.2.2.1 20 (by decide)
theorem pr_s21 {E : pr_Env} {U : State} {H : Heap} (h : pr_E E U H) : vk_R "ProgramReader$Writer" 76 "-" (E.2.2.2.2 21) U ∧ pr_sT E.2.2.1 [45] (E.2.2.2.2 21) U H := h.2.2.1 21 (by decide)
theorem pr_s22 {E : pr_Env} {U : State} {H : Heap} (h : pr_E E U H) : vk_R "ProgramReader$Writer" 100 "[" (E.2.2.2.2 22) U ∧ pr_sT E.2.2.1 [91] (E.2.2.2.2 22) U H := h.2.2.1 22 (by decide)
theorem pr_s23 {E : pr_Env} {U : State} {H : Heap} (h : pr_E E U H) : vk_R "ProgramReader$Writer" 102 "(" (E.2.2.2.2 23) U ∧ pr_sT E.2.2.1 [40] (E.2.2.2.2 23) U H := h.2.2.1 23 (by decide)
theorem pr_s24 {E : pr_Env} {U : State} {H : Heap} (h : pr_E E U H) : vk_R "ProgramReader$Writer" 104 "]" (E.2.2.2.2 24) U ∧ pr_sT E.2.2.1 [93] (E.2.2.2.2 24) U H := h.2.2.1 24 (by decide)
theorem pr_s25 {E : pr_Env} {U : State} {H : Heap} (h : pr_E E U H) : vk_R "ProgramReader$Writer" 106 ")" (E.2.2.2.2 25) U ∧ pr_sT E.2.2.1 [41] (E.2.2.2.2 25) U H := h.2.2.1 25 (by decide)
theorem pr_s26 {E : pr_Env} {U : State} {H : Heap} (h : pr_E E U H) : vk_R "ProgramReader$Writer" 108 "+" (E.2.2.2.2 26) U ∧ pr_sT E.2.2.1 [43] (E.2.2.2.2 26) U H := h.2.2.1 26 (by decide)
theorem pr_s27 {E : pr_Env} {U : State} {H : Heap} (h : pr_E E U H) : vk_R "ProgramReader$Writer" 114 "*" (E.2.2.2.2 27) U ∧ pr_sT E.2.2.1 [42] (E.2.2.2.2 27) U H := h.2.2.1 27 (by decide)
theorem pr_s28 {E : pr_Env} {U : State} {H : Heap} (h : pr_E E U H) : vk_R "ProgramReader$Writer" 116 "/" (E.2.2.2.2 28) U ∧ pr_sT E.2.2.1 [47] (E.2.2.2.2 28) U H := h.2.2.1 28 (by decide)
theorem pr_s29 {E : pr_Env} {U : State} {H : Heap} (h : pr_E E U H) : vk_R "ProgramReader$Writer" 118 "%" (E.2.2.2.2 29) U ∧ pr_sT E.2.2.1 [37] (E.2.2.2.2 29) U H := h.2.2.1 29 (by decide)
theorem pr_s30 {E : pr_Env} {U : State} {H : Heap} (h : pr_E E U H) : vk_R "ProgramReader$Writer" 120 "<" (E.2.2.2.2 30) U ∧ pr_sT E.2.2.1 [60] (E.2.2.2.2 30) U H := h.2.2.1 30 (by decide)
theorem pr_s31 {E : pr_Env} {U : State} {H : Heap} (h : pr_E E U H) : vk_R "ProgramReader$Writer" 122 "<=" (E.2.2.2.2 31) U ∧ pr_sT E.2.2.1 [60, 61] (E.2.2.2.2 31) U H := h.2.2.1 31 (by decide)
theorem pr_s32 {E : pr_Env} {U : State} {H : Heap} (h : pr_E E U H) : vk_R "ProgramReader$Writer" 124 ">" (E.2.2.2.2 32) U ∧ pr_sT E.2.2.1 [62] (E.2.2.2.2 32) U H := h.2.2.1 32 (by decide)
theorem pr_s33 {E : pr_Env} {U : State} {H : Heap} (h : pr_E E U H) : vk_R "ProgramReader$Writer" 126 ">=" (E.2.2.2.2 33) U ∧ pr_sT E.2.2.1 [62, 61] (E.2.2.2.2 33) U H := h.2.2.1 33 (by decide)
theorem pr_s34 {E : pr_Env} {U : State} {H : Heap} (h : pr_E E U H) : vk_R "ProgramReader$Writer" 128 "==" (E.2.2.2.2 34) U ∧ pr_sT E.2.2.1 [61, 61] (E.2.2.2.2 34) U H := h.2.2.1 34 (by decide)
theorem pr_s35 {E : pr_Env} {U : State} {H : Heap} (h : pr_E E U H) : vk_R "ProgramReader$Writer" 130 "!=" (E.2.2.2.2 35) U ∧ pr_sT E.2.2.1 [33, 61] (E.2.2.2.2 35) U H := h.2.2.1 35 (by decide)
theorem pr_s36 {E : pr_Env} {U : State} {H : Heap} (h : pr_E E U H) : vk_R "ProgramReader$Writer" 141 "any" (E.2.2.2.2 36) U ∧ pr_sT E.2.2.1 [97, 110, 121] (E.2.2.2.2 36) U H := h.2.2.1 36 (by decide)
theorem pr_s37 {E : pr_Env} {U : State} {H : Heap} (h : pr_E E U H) : vk_R "ProgramReader$Writer" 143 "," (E.2.2.2.2 37) U ∧ pr_sT E.2.2.1 [44] (E.2.2.2.2 37) U H := h.2.2.1 37 (by decide)
theorem pr_s38 {E : pr_Env} {U : State} {H : Heap} (h : pr_E E U H) : vk_R "ProgramReader$Writer" 152 "||" (E.2.2.2.2 38) U ∧ pr_sT E.2.2.1 [124, 124] (E.2.2.2.2 38) U H := h.2.2.1 38 (by decide)
theorem pr_s39 {E : pr_Env} {U : State} {H : Heap} (h : pr_E E U H) : vk_R "ProgramReader$Writer" 154 "&&" (E.2.2.2.2 39) U ∧ pr_sT E.2.2.1 [38, 38] (E.2.2.2.2 39) U H := h.2.2.1 39 (by decide)
theorem pr_s40 {E : pr_Env} {U : State} {H : Heap} (h : pr_E E U H) : vk_R "ProgramReader$Writer" 156 "!" (E.2.2.2.2 40) U ∧ pr_sT E.2.2.1 [33] (E.2.2.2.2 40) U H := h.2.2.1 40 (by decide)
theorem pr_s41 {E : pr_Env} {U : State} {H : Heap} (h : pr_E E U H) : vk_R "ProgramReader$Writer" 171 "{" (E.2.2.2.2 41) U ∧ pr_sT E.2.2.1 [123] (E.2.2.2.2 41) U H := h.2.2.1 41 (by decide)
theorem pr_s42 {E : pr_Env} {U : State} {H : Heap} (h : pr_E E U H) : vk_R "ProgramReader$Writer" 173 "}" (E.2.2.2.2 42) U ∧ pr_sT E.2.2.1 [125] (E.2.2.2.2 42) U H := h.2.2.1 42 (by decide)
theorem pr_s43 {E : pr_Env} {U : State} {H : Heap} (h : pr_E E U H) : vk_R "ProgramReader$Writer" 175 "if(" (E.2.2.2.2 43) U ∧ pr_sT E.2.2.1 [105, 102, 40] (E.2.2.2.2 43) U H := h.2.2.1 43 (by decide)
theorem pr_s44 {E : pr_Env} {U : State} {H : Heap} (h : pr_E E U H) : vk_R "ProgramReader$Writer" 177 "else" (E.2.2.2.2 44) U ∧ pr_sT E.2.2.1 [101, 108, 115, 101] (E.2.2.2.2 44) U H := h.2.2.1 44 (by decide)
theorem pr_s45 {E : pr_Env} {U : State} {H : Heap} (h : pr_E E U H) : vk_R "ProgramReader$Writer" 179 "while(" (E.2.2.2.2 45) U ∧ pr_sT E.2.2.1 [119, 104, 105, 108, 101, 40] (E.2.2.2.2 45) U H := h.2.2.1 45 (by decide)
theorem pr_s46 {E : pr_Env} {U : State} {H : Heap} (h : pr_E E U H) : vk_R "ProgramReader$Writer" 184 ";" (E.2.2.2.2 46) U ∧ pr_sT E.2.2.1 [59] (E.2.2.2.2 46) U H := h.2.2.1 46 (by decide)
theorem pr_s47 {E : pr_Env} {U : State} {H : Heap} (h : pr_E E U H) : vk_R "ProgramReader$Writer" 186 "fun" (E.2.2.2.2 47) U ∧ pr_sT E.2.2.1 [102, 117, 110] (E.2.2.2.2 47) U H := h.2.2.1 47 (by decide)
theorem pr_s48 {E : pr_Env} {U : State} {H : Heap} (h : pr_E E U H) : vk_R "ProgramReader$Writer" 188 "var" (E.2.2.2.2 48) U ∧ pr_sT E.2.2.1 [118, 97, 114] (E.2.2.2.2 48) U H := h.2.2.1 48 (by decide)
theorem pr_s49 {E : pr_Env} {U : State} {H : Heap} (h : pr_E E U H) : vk_R "ProgramReader$Writer" 190 "=" (E.2.2.2.2 49) U ∧ pr_sT E.2.2.1 [61] (E.2.2.2.2 49) U H := h.2.2.1 49 (by decide)
theorem pr_s50 {E : pr_Env} {U : State} {H : Heap} (h : pr_E E U H) : vk_R "ProgramReader$Writer" 192 "assert(" (E.2.2.2.2 50) U ∧ pr_sT E.2.2.1 [97, 115, 115, 101, 114, 116, 40] (E.2.2.2.2 50) U H := h.2.2.1 50 (by decide)
theorem pr_s51 {E : pr_Env} {U : State} {H : Heap} (h : pr_E E U H) : vk_R "ProgramReader$Writer" 194 "return" (E.2.2.2.2 51) U ∧ pr_sT E.2.2.1 [114, 101, 116, 117, 114, 110] (E.2.2.2.2 51) U H := h.2.2.1 51 (by decide)
theorem pr_s52 {E : pr_Env} {U : State} {H : Heap} (h : pr_E E U H) : vk_R "ProgramReader$Reader" 31 "it can't stand there" (E.2.2.2.2 52) U ∧ pr_sT E.2.2.1 [105, 116, 32, 99, 97, 110, 39, 116, 32, 115, 116, 97, 110, 100, 32, 116, 104, 101, 114, 101] (E.2.2.2.2 52) U H := h.2.2.1 52 (by decide)
theorem pr_nf0 {E : pr_Env} {U : State} {H : Heap} {A : Array Value} (h : pr_E E U H) : (Cond.fieldLinkNest "ProgramReader" 68 "ProgramReader$Bytes" "size" "I" "ProgramReader").before A U = true := va_Nw.use rfl (h.2.2.2.2.2.1 ("ProgramReader", 68, "ProgramReader$Bytes", "size", "I", "ProgramReader") (List.mem_of_getElem? (i := 0) rfl))
theorem pr_nf1 {E : pr_Env} {U : State} {H : Heap} {A : Array Value} (h : pr_E E U H) : (Cond.fieldLinkNest "ProgramReader" 87 "ProgramReader$Tree" "count" "I" "ProgramReader").before A U = true := va_Nw.use rfl (h.2.2.2.2.2.1 ("ProgramReader", 87, "ProgramReader$Tree", "count", "I", "ProgramReader") (List.mem_of_getElem? (i := 1) rfl))
theorem pr_nf2 {E : pr_Env} {U : State} {H : Heap} {A : Array Value} (h : pr_E E U H) : (Cond.fieldLinkNest "ProgramReader" 96 "ProgramReader$Tree" "kinds" "[B" "ProgramReader").before A U = true := va_Nw.use rfl (h.2.2.2.2.2.1 ("ProgramReader", 96, "ProgramReader$Tree", "kinds", "[B", "ProgramReader") (List.mem_of_getElem? (i := 2) rfl))
theorem pr_nf3 {E : pr_Env} {U : State} {H : Heap} {A : Array Value} (h : pr_E E U H) : (Cond.fieldLinkNest "ProgramReader" 100 "ProgramReader$Tree" "places" "[I" "ProgramReader").before A U = true := va_Nw.use rfl (h.2.2.2.2.2.1 ("ProgramReader", 100, "ProgramReader$Tree", "places", "[I", "ProgramReader") (List.mem_of_getElem? (i := 3) rfl))
theorem pr_nf4 {E : pr_Env} {U : State} {H : Heap} {A : Array Value} (h : pr_E E U H) : (Cond.fieldLinkNest "ProgramReader" 104 "ProgramReader$Tree" "values" "[I" "ProgramReader").before A U = true := va_Nw.use rfl (h.2.2.2.2.2.1 ("ProgramReader", 104, "ProgramReader$Tree", "values", "[I", "ProgramReader") (List.mem_of_getElem? (i := 4) rfl))
theorem pr_nf5 {E : pr_Env} {U : State} {H : Heap} {A : Array Value} (h : pr_E E U H) : (Cond.fieldLinkNest "ProgramReader" 107 "ProgramReader$Tree" "sizes" "[I" "ProgramReader").before A U = true := va_Nw.use rfl (h.2.2.2.2.2.1 ("ProgramReader", 107, "ProgramReader$Tree", "sizes", "[I", "ProgramReader") (List.mem_of_getElem? (i := 5) rfl))
theorem pr_nf6 {E : pr_Env} {U : State} {H : Heap} {A : Array Value} (h : pr_E E U H) : (Cond.fieldLinkNest "ProgramReader" 121 "ProgramReader$Names" "count" "I" "ProgramReader").before A U = true := va_Nw.use rfl (h.2.2.2.2.2.1 ("ProgramReader", 121, "ProgramReader$Names", "count", "I", "ProgramReader") (List.mem_of_getElem? (i := 6) rfl))
theorem pr_nf7 {E : pr_Env} {U : State} {H : Heap} {A : Array Value} (h : pr_E E U H) : (Cond.fieldLinkNest "ProgramReader$Names" 59 "ProgramReader$Bytes" "size" "I" "ProgramReader").before A U = true := va_Nw.use rfl (h.2.2.2.2.2.1 ("ProgramReader$Names", 59, "ProgramReader$Bytes", "size", "I", "ProgramReader") (List.mem_of_getElem? (i := 7) rfl))
theorem pr_nf8 {E : pr_Env} {U : State} {H : Heap} {A : Array Value} (h : pr_E E U H) : (Cond.fieldLinkNest "ProgramReader$Reader" 22 "ProgramReader$Tokens" "place" "I" "ProgramReader").before A U = true := va_Nw.use rfl (h.2.2.2.2.2.1 ("ProgramReader$Reader", 22, "ProgramReader$Tokens", "place", "I", "ProgramReader") (List.mem_of_getElem? (i := 8) rfl))
theorem pr_nf9 {E : pr_Env} {U : State} {H : Heap} {A : Array Value} (h : pr_E E U H) : (Cond.fieldLinkNest "ProgramReader$Reader" 42 "ProgramReader$Tokens" "token" "LProgramReader$Token;" "ProgramReader").before A U = true := va_Nw.use rfl (h.2.2.2.2.2.1 ("ProgramReader$Reader", 42, "ProgramReader$Tokens", "token", "LProgramReader$Token;", "ProgramReader") (List.mem_of_getElem? (i := 9) rfl))
theorem pr_nf10 {E : pr_Env} {U : State} {H : Heap} {A : Array Value} (h : pr_E E U H) : (Cond.fieldLinkNest "ProgramReader$Reader" 58 "ProgramReader$Tokens" "bytes" "LProgramReader$Bytes;" "ProgramReader").before A U = true := va_Nw.use rfl (h.2.2.2.2.2.1 ("ProgramReader$Reader", 58, "ProgramReader$Tokens", "bytes", "LProgramReader$Bytes;", "ProgramReader") (List.mem_of_getElem? (i := 10) rfl))
theorem pr_nf11 {E : pr_Env} {U : State} {H : Heap} {A : Array Value} (h : pr_E E U H) : (Cond.fieldLinkNest "ProgramReader$Reader" 62 "ProgramReader$Tokens" "length" "I" "ProgramReader").before A U = true := va_Nw.use rfl (h.2.2.2.2.2.1 ("ProgramReader$Reader", 62, "ProgramReader$Tokens", "length", "I", "ProgramReader") (List.mem_of_getElem? (i := 11) rfl))
theorem pr_nf12 {E : pr_Env} {U : State} {H : Heap} {A : Array Value} (h : pr_E E U H) : (Cond.fieldLinkNest "ProgramReader$Reader" 84 "ProgramReader$Tokens" "value" "I" "ProgramReader").before A U = true := va_Nw.use rfl (h.2.2.2.2.2.1 ("ProgramReader$Reader", 84, "ProgramReader$Tokens", "value", "I", "ProgramReader") (List.mem_of_getElem? (i := 12) rfl))
theorem pr_nf13 {E : pr_Env} {U : State} {H : Heap} {A : Array Value} (h : pr_E E U H) : (Cond.fieldLinkNest "ProgramReader$Reader" 100 "ProgramReader$Tree" "count" "I" "ProgramReader").before A U = true := va_Nw.use rfl (h.2.2.2.2.2.1 ("ProgramReader$Reader", 100, "ProgramReader$Tree", "count", "I", "ProgramReader") (List.mem_of_getElem? (i := 13) rfl))
theorem pr_nf14 {E : pr_Env} {U : State} {H : Heap} {A : Array Value} (h : pr_E E U H) : (Cond.fieldLinkNest "ProgramReader$Reader" 109 "ProgramReader$Tree" "places" "[I" "ProgramReader").before A U = true := va_Nw.use rfl (h.2.2.2.2.2.1 ("ProgramReader$Reader", 109, "ProgramReader$Tree", "places", "[I", "ProgramReader") (List.mem_of_getElem? (i := 14) rfl))
theorem pr_nf15 {E : pr_Env} {U : State} {H : Heap} {A : Array Value} (h : pr_E E U H) : (Cond.fieldLinkNest "ProgramReader$Reader" 117 "ProgramReader$Tree" "kinds" "[B" "ProgramReader").before A U = true := va_Nw.use rfl (h.2.2.2.2.2.1 ("ProgramReader$Reader", 117, "ProgramReader$Tree", "kinds", "[B", "ProgramReader") (List.mem_of_getElem? (i := 15) rfl))
theorem pr_nf16 {E : pr_Env} {U : State} {H : Heap} {A : Array Value} (h : pr_E E U H) : (Cond.fieldLinkNest "ProgramReader$Reader" 239 "ProgramReader$Names" "count" "I" "ProgramReader").before A U = true := va_Nw.use rfl (h.2.2.2.2.2.1 ("ProgramReader$Reader", 239, "ProgramReader$Names", "count", "I", "ProgramReader") (List.mem_of_getElem? (i := 16) rfl))
theorem pr_nf17 {E : pr_Env} {U : State} {H : Heap} {A : Array Value} (h : pr_E E U H) : (Cond.fieldLinkNest "ProgramReader$Tokens" 99 "ProgramReader$Token" "letters" "Ljava/lang/String;" "ProgramReader").before A U = true := va_Nw.use rfl (h.2.2.2.2.2.1 ("ProgramReader$Tokens", 99, "ProgramReader$Token", "letters", "Ljava/lang/String;", "ProgramReader") (List.mem_of_getElem? (i := 17) rfl))
theorem pr_nf18 {E : pr_Env} {U : State} {H : Heap} {A : Array Value} (h : pr_E E U H) : (Cond.fieldLinkNest "ProgramReader$Writer" 28 "ProgramReader$Bytes" "size" "I" "ProgramReader").before A U = true := va_Nw.use rfl (h.2.2.2.2.2.1 ("ProgramReader$Writer", 28, "ProgramReader$Bytes", "size", "I", "ProgramReader") (List.mem_of_getElem? (i := 18) rfl))
theorem pr_nf19 {E : pr_Env} {U : State} {H : Heap} {A : Array Value} (h : pr_E E U H) : (Cond.fieldLinkNest "ProgramReader$Writer" 61 "ProgramReader$Tree" "values" "[I" "ProgramReader").before A U = true := va_Nw.use rfl (h.2.2.2.2.2.1 ("ProgramReader$Writer", 61, "ProgramReader$Tree", "values", "[I", "ProgramReader") (List.mem_of_getElem? (i := 19) rfl))
theorem pr_nf20 {E : pr_Env} {U : State} {H : Heap} {A : Array Value} (h : pr_E E U H) : (Cond.fieldLinkNest "ProgramReader$Writer" 87 "ProgramReader$Tree" "sizes" "[I" "ProgramReader").before A U = true := va_Nw.use rfl (h.2.2.2.2.2.1 ("ProgramReader$Writer", 87, "ProgramReader$Tree", "sizes", "[I", "ProgramReader") (List.mem_of_getElem? (i := 20) rfl))
theorem pr_nf21 {E : pr_Env} {U : State} {H : Heap} {A : Array Value} (h : pr_E E U H) : (Cond.fieldLinkNest "ProgramReader$Writer" 96 "ProgramReader$Tree" "kinds" "[B" "ProgramReader").before A U = true := va_Nw.use rfl (h.2.2.2.2.2.1 ("ProgramReader$Writer", 96, "ProgramReader$Tree", "kinds", "[B", "ProgramReader") (List.mem_of_getElem? (i := 21) rfl))
theorem pr_nm0 {E : pr_Env} {U : State} {H : Heap} {A : Array Value} (h : pr_E E U H) : (Cond.methodLinkNest "ProgramReader" 15 ⟨"ProgramReader$Bytes", "<init>", "()V"⟩ "ProgramReader").before A U = true := va_Nw.use rfl (h.2.2.2.2.2.2.1 ("ProgramReader", 15, ⟨"ProgramReader$Bytes", "<init>", "()V"⟩, "ProgramReader") (List.mem_of_getElem? (i := 0) rfl))
theorem pr_nm1 {E : pr_Env} {U : State} {H : Heap} {A : Array Value} (h : pr_E E U H) : (Cond.methodLinkNest "ProgramReader" 30 ⟨"ProgramReader$Names", "<init>", "()V"⟩ "ProgramReader").before A U = true := va_Nw.use rfl (h.2.2.2.2.2.2.1 ("ProgramReader", 30, ⟨"ProgramReader$Names", "<init>", "()V"⟩, "ProgramReader") (List.mem_of_getElem? (i := 1) rfl))
theorem pr_nm2 {E : pr_Env} {U : State} {H : Heap} {A : Array Value} (h : pr_E E U H) : (Cond.methodLinkNest "ProgramReader$Names" 9 ⟨"ProgramReader$Bytes", "<init>", "()V"⟩ "ProgramReader").before A U = true := va_Nw.use rfl (h.2.2.2.2.2.2.1 ("ProgramReader$Names", 9, ⟨"ProgramReader$Bytes", "<init>", "()V"⟩, "ProgramReader") (List.mem_of_getElem? (i := 2) rfl))
theorem pr_nm3 {E : pr_Env} {U : State} {H : Heap} {A : Array Value} (h : pr_E E U H) : (Cond.methodLinkNest "ProgramReader$Names" 53 ⟨"ProgramReader", "grown", "([II)[I"⟩ "ProgramReader").before A U = true := va_Nw.use rfl (h.2.2.2.2.2.2.1 ("ProgramReader$Names", 53, ⟨"ProgramReader", "grown", "([II)[I"⟩, "ProgramReader") (List.mem_of_getElem? (i := 3) rfl))
theorem pr_nm4 {E : pr_Env} {U : State} {H : Heap} {A : Array Value} (h : pr_E E U H) : (Cond.methodLinkNest "ProgramReader$Reader" 11 ⟨"ProgramReader$Tokens", "<init>", "()V"⟩ "ProgramReader").before A U = true := va_Nw.use rfl (h.2.2.2.2.2.2.1 ("ProgramReader$Reader", 11, ⟨"ProgramReader$Tokens", "<init>", "()V"⟩, "ProgramReader") (List.mem_of_getElem? (i := 4) rfl))
theorem pr_nm5 {E : pr_Env} {U : State} {H : Heap} {A : Array Value} (h : pr_E E U H) : (Cond.methodLinkNest "ProgramReader$Tree" 42 ⟨"ProgramReader", "grown", "([II)[I"⟩ "ProgramReader").before A U = true := va_Nw.use rfl (h.2.2.2.2.2.2.1 ("ProgramReader$Tree", 42, ⟨"ProgramReader", "grown", "([II)[I"⟩, "ProgramReader") (List.mem_of_getElem? (i := 5) rfl))
theorem pr_nm6 {E : pr_Env} {U : State} {H : Heap} {A : Array Value} (h : pr_E E U H) : (Cond.methodLinkNest "ProgramReader$Writer" 15 ⟨"ProgramReader$Tokens", "begins", "(I)Z"⟩ "ProgramReader").before A U = true := va_Nw.use rfl (h.2.2.2.2.2.2.1 ("ProgramReader$Writer", 15, ⟨"ProgramReader$Tokens", "begins", "(I)Z"⟩, "ProgramReader") (List.mem_of_getElem? (i := 6) rfl))
theorem pr_nm7 {E : pr_Env} {U : State} {H : Heap} {A : Array Value} (h : pr_E E U H) : (Cond.methodLinkNest "ProgramReader$Writer" 21 ⟨"ProgramReader$Tokens", "isDigit", "(I)Z"⟩ "ProgramReader").before A U = true := va_Nw.use rfl (h.2.2.2.2.2.2.1 ("ProgramReader$Writer", 21, ⟨"ProgramReader$Tokens", "isDigit", "(I)Z"⟩, "ProgramReader") (List.mem_of_getElem? (i := 7) rfl))
