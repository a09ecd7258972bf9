/-! CONTROL: jumps, calls, throws; the induction on the run's length -/
set_option maxHeartbeats 1000000
def mx_rm (d mc ms : Nat) : Room := { frames := d + 40, cells := mc, slots := ms, locals := 10300 + 40 * d }
def mx_xs : List Nat := [11, 17, 18, 40, 41, 42]
theorem mx_xg_in {c c' : Nat} (h : mx_xg c = some c') : c' = c ∧ c' ∈ mx_xs := by
  unfold mx_xg at h
  split at h
  · rename_i hc
    cases h
    refine ⟨rfl, ?_⟩
    rcases hc with z | z | z | z | z | z <;> (subst z; decide)
  · cases h
/-- premises of the start that no word of the tables says -/
def mx_nlkA : List Cond := [.methodLink "ColdBox" 447 ⟨"ColdBox$Tells", "spends", "(I)I"⟩, .methodLink "ColdBox" 452 ⟨"ColdBox$Tells", "parches", "(I)I"⟩, .methodLink "ColdBox" 455 ⟨"ColdBox$Tells", "shares", "(I)I"⟩, .methodLink "ColdBox$AnyWeek" 26 ⟨"ColdBox$Tells", "parches", "(I)I"⟩,
  .interfaceMethod "ColdBox$Tells" "ColdBox$SpendsAct" "spends" "(I)I", .interfaceMethod "ColdBox$Tells" "ColdBox$SpendsAct" "parches" "(I)I", .interfaceMethod "ColdBox$Tells" "ColdBox$SharesAct" "shares" "(I)I", .landsInDefault "ColdBox$Tells" ⟨"ColdBox$Tells", "parches", "(I)I"⟩ ⟨"ColdBox$SpendsAct", "parches", "(I)I"⟩]
/-- words of the tables that ride in no list: public methods, methods not hidden, the interfaces' own entries -/
def mx_nlkB : List Cond := [.publicMethod ⟨"ColdBox$AnyWeek", "parches", "(I)I"⟩, .publicMethod ⟨"ColdBox$AnyWeek", "shares", "(I)I"⟩, .publicMethod ⟨"ColdBox$AnyWeek", "spends", "(I)I"⟩, .publicMethod ⟨"ColdBox$AnyWeek", "tells", "(I)I"⟩, .publicMethod ⟨"ColdBox$AwakeWeek", "parches", "(I)I"⟩, .publicMethod ⟨"ColdBox$AwakeWeek", "spends", "(I)I"⟩, .publicMethod ⟨"ColdBox$DeepWeek", "parches", "(I)I"⟩, .publicMethod ⟨"ColdBox$DryingWeek", "shares", "(I)I"⟩, .publicMethod ⟨"ColdBox$DryingWeek", "tells", "(I)I"⟩, .publicMethod ⟨"ColdBox$FrostedWeek", "shares", "(I)I"⟩, .publicMethod ⟨"ColdBox$FrostedWeek", "spends", "(I)I"⟩, .publicMethod ⟨"ColdBox$MildWeek", "spends", "(I)I"⟩, .publicMethod ⟨"ColdBox$MildWeek", "tells", "(I)I"⟩, .publicMethod ⟨"ColdBox$SharesAct", "shares", "(I)I"⟩, .publicMethod ⟨"ColdBox$SpendsAct", "parches", "(I)I"⟩, .publicMethod ⟨"ColdBox$SpendsAct", "spends", "(I)I"⟩, .unhidden "ColdBox$AnyWeek" "parches" "(I)I", .unhidden "ColdBox$AnyWeek" "shares" "(I)I", .unhidden "ColdBox$AnyWeek" "spends" "(I)I", .unhidden "ColdBox$AnyWeek" "tells" "(I)I", .unhidden "ColdBox$AwakeWeek" "parches" "(I)I", .unhidden "ColdBox$AwakeWeek" "shares" "(I)I", .unhidden "ColdBox$AwakeWeek" "spends" "(I)I", .unhidden "ColdBox$AwakeWeek" "tells" "(I)I", .unhidden "ColdBox$DeepWeek" "parches" "(I)I", .unhidden "ColdBox$DeepWeek" "shares" "(I)I", .unhidden "ColdBox$DeepWeek" "spends" "(I)I", .unhidden "ColdBox$DeepWeek" "tells" "(I)I", .unhidden "ColdBox$DryingWeek" "parches" "(I)I", .unhidden "ColdBox$DryingWeek" "shares" "(I)I", .unhidden "ColdBox$DryingWeek" "spends" "(I)I", .unhidden "ColdBox$DryingWeek" "tells" "(I)I", .unhidden "ColdBox$FrostedWeek" "parches" "(I)I", .unhidden "ColdBox$FrostedWeek" "shares" "(I)I", .unhidden "ColdBox$FrostedWeek" "spends" "(I)I", .unhidden "ColdBox$FrostedWeek" "tells" "(I)I", .unhidden "ColdBox$MildWeek" "parches" "(I)I", .unhidden "ColdBox$MildWeek" "shares" "(I)I", .unhidden "ColdBox$MildWeek" "spends" "(I)I", .unhidden "ColdBox$MildWeek" "tells" "(I)I", .interfaceMethod "ColdBox$SpendsAct" "ColdBox$SpendsAct" "spends" "(I)I", .interfaceMethod "ColdBox$Tells" "ColdBox$Tells" "tells" "(I)I"]
def mx_nlk : List Cond := mx_nlkA ++ mx_nlkB
/-- a word that warmer tables keep -/
def mx_warm (w : Cond) : Prop := ∀ s U : State, s.WarmedH U.vm → va_Nw w s → va_Nw w U
def mx_MR (U : State) : Prop := modulesRight_1 U = true
def mx_Bs (D : va_G) (cas : Nat → ClassId) (x : Nat → Nat → Prop) (A0 : Nat → Prop) (B : Nat × (Nat → Int32)) (U : State) (H : Heap) : Prop :=
  mx_Tb D cas x U ∧ (∀ q : Nat, H.size ≤ q → A0 q) ∧ (∀ b, x 1000 b → va_X b B.1 B.2 U H ∧ ¬ A0 b ∧ b < H.size) ∧
  (∀ k q l, mx_len k = some l → x k q → va_O "java/lang/String" q A0 U H ∧ va_OF "java/lang/String" "coder" "B" (.int 0) q A0 U H ∧ ∃ t, va_OF "java/lang/String" "value" "[B" (.ref t) q A0 U H ∧ va_T .byte t l.length (fun j => .int (l.getD j 0)) A0 U H) ∧
  vx_Zq Bundle.tN "UNASSIGNED_STACK" Bundle.steD A0 U H ∧ vx_Zq Bundle.tN "SUPPRESSED_SENTINEL" Bundle.listD A0 U H ∧ va_Z "java/lang/String" "COMPACT_STRINGS" "Z" (.int 1) A0 U H ∧
  (∀ w ∈ mx_nlk, va_Nw w U) ∧ (∀ a ∈ mx_xs, ∀ b ∈ mx_xs, a ≠ b → va_Nc (mx_cls a) (mx_cls b) U) ∧ mx_MR U
/-- the facts that hold once for all: of the tables of this machine -/
def mx_cwd (e : mx_M) : Cond := match e.2.2.2.2.2.2 with
  | [] => .code e.1 e.2.1 e.2.2.1 e.2.2.2.1
  | hh => .codeWith e.1 e.2.1 e.2.2.1 e.2.2.2.1 hh
def mx_ME (e : mx_M) : Prop := e.1.cls = mx_cls e.2.2.2.2.1 ∧ plainName e.1.cls = true ∧ Cond.initialized e.1.cls ∈ lw_all ∧ mx_cwd e ∈ lw_all ∧ e.2.2.1 ≤ 10
def mx_MOK : Prop := (∀ y e, mx_mi y = some e → e.2.2.2.2.1 ≠ 37 → mx_ME e) ∧ (∀ y, ∀ z ∈ mx_hnd y, z.2.2.2 ≠ 0 ∧ ∃ c ∈ mx_xs, mx_xcl z.2.2.2 = some c ∧ Cond.classLink (mx_cls (mx_own y)) z.2.2.2 (mx_cls c) ∈ lw_all)
def mx_WOK : Prop := (∀ w, mx_side w = true → mx_warm w) ∧ (∀ w ∈ mx_nlk, mx_warm w) ∧ (∀ s U : State, s.WarmedH U.vm → mx_MR s → mx_MR U)
def mx_GL : Prop := mx_TOK ∧ mx_MOK ∧ (∀ c ∈ mx_xs, Cond.castable (mx_cls c) (mx_cls c) ∈ lw_tbl) ∧ (∀ c k, mx_fty c k ≠ .double ∧ mx_fty c k ≠ .float) ∧ mx_WOK
section MXC
variable {D : va_G} {cas : Nat → ClassId} {x : Nat → Nat → Prop} {A0 : Nat → Prop} {B : Nat × (Nat → Int32)}
theorem mx_Tb.warm (hW : mx_WOK) {s U : State} (h : s.WarmedH U.vm) (hT : mx_Tb D cas x s) : mx_Tb D cas x U := by
  obtain ⟨h1, h2, h3, h4, h5⟩ := hT
  refine ⟨fun w hw hs => hW.1 w hs s U h (h1 w hw hs), va_K.moved h.alike h2, fun k t hk => va_Nc.moved h.alike (h3 k t hk), fun k t hk => ?_, fun o i k hk => ?_⟩
  · rcases h4 k t hk with z | z
    · exact Or.inl z
    · exact Or.inr (hW.1 _ rfl s U h z)
  · obtain ⟨g1, tx, q, g2, g3⟩ := h5 o i k hk
    exact ⟨g1, tx, q, vk_R.warm h g2, g3⟩
theorem mx_Bs.warm (hW : mx_WOK) {s U : State} {H H1 : Heap} (h : s.WarmedH U.vm) (hz : H.size ≤ H1.size) (hq : ∀ a : Nat, a < H.size → ¬ A0 a → H1[a]? = H[a]?) (hB : mx_Bs D cas x A0 B s H) : mx_Bs D cas x A0 B U H1 := by
  obtain ⟨h1, h2, h3, h4, h5, h6, h7, h8, h9, h10⟩ := hB
  have hal := h.alike
  refine ⟨h1.warm hW h, fun q hq => h2 q (Nat.le_trans hz hq), fun b hb => ?_, fun k q l hl hk => ?_, (vx_Zq.moved hal h5).kept hq, (vx_Zq.moved hal h6).kept hq, (va_Z.moved hal h7).kept hq, fun w hw => hW.2.1 w hw s U h (h8 w hw), fun a ha b hb hab => va_Nc.moved hal (h9 a ha b hb hab), hW.2.2 s U h h10⟩
  · obtain ⟨g1, g2, g3⟩ := h3 b hb
    exact ⟨(va_X.moved hal g1).kept (hq b g3 g2), g2, Nat.lt_of_lt_of_le g3 hz⟩
  · obtain ⟨g1, g2, t, g3, g4⟩ := h4 k q l hl hk
    exact ⟨(va_O.moved hal g1).kept hq, (va_OF.moved hal g2).kept hq, t, (va_OF.moved hal g3).kept hq, (va_T.moved hal g4).kept hq⟩
/-! contracts -/
def mx_Pc (D : va_G) (cas : Nat → ClassId) (x : Nat → Nat → Prop) (A0 : Nat → Prop) (B : Nat × (Nat → Int32)) (L : List Nat) (E : List va_E) (av : List Value) (h : List mx_E) : Array Value → State → Prop := fun a U =>
  a = av.toArray ∧ mx_Bs D cas x A0 B U U.heap ∧ mx_Hr D cas x A0 L E h U.heap
def mx_Qc (D : va_G) (cas : Nat → ClassId) (x : Nat → Nat → Prop) (A0 : Nat → Prop) (L : List Nat) (r : mx_R) : Array Value → State → Outcome → State → Prop := fun _ st o t =>
  va_F A0 st t ∧ ∃ (v v' : Option Value) (M : List Nat) (E : List va_E), r.1 = .inl v ∧ o = .returned v' ∧ mx_O1 (fun q => (L ++ M)[q]?) x v v' ∧ mx_Hr D cas x A0 (L ++ M) E r.2.2 t.heap
def mx_XC (D : va_G) (cas : Nat → ClassId) (x : Nat → Nat → Prop) (A0 : Nat → Prop) (L : List Nat) (r : mx_R) : Addr → String → State → State → Prop := fun q En st t =>
  va_F A0 st t ∧ ∃ (w : Value) (c : Nat) (M : List Nat) (E : List va_E), r.1 = .inr w ∧ mx_V (fun q => (L ++ M)[q]?) x w (.ref q) ∧ mx_xc r.2 w = some c ∧ En = mx_cls c ∧ mx_Hr D cas x A0 (L ++ M) E r.2.2 t.heap
theorem mx_Pc.blind (hW : mx_WOK) {L : List Nat} {E : List va_E} {av : List Value} {h : List mx_E} : FrameBlind (mx_Pc D cas x A0 B L E av h) := fun a U g mk ⟨h1, h2, h3⟩ =>
  ⟨h1, mx_Bs.warm (U := U.calling g mk a) (H1 := U.heap) hW (State.WarmedH.refl U) (Nat.le_refl _) (fun _ _ _ => rfl) h2, h3⟩
section MXF
variable {p : Program} {l : Launch} {e : Env} {R : Room} {s : State} {m : MethodId} {args : Array Value} {below : List Frame} {meth : Method} {c : Code} {Q : State → Prop} {L0 : List Nat} {c0 k0 : Nat} {cc : ByteArray}
/-- a method's end: a return; a throw that no handler takes -/
def mx_ER (p : Program) (l : Launch) (e : Env) (R : Room) (s : State) (m : MethodId) (args : Array Value) (below : List Frame) (meth : Method) (c : Code) (Q : State → Prop) (D : va_G) (cas : Nat → ClassId) (x : Nat → Nat → Prop) (A0 : Nat → Prop) (L0 : List Nat) (c0 k0 : Nat) (cc : ByteArray) (y : Nat) (r : mx_R) : Prop :=
  ∀ (L : List Nat) (E : List va_E) (pc : Nat) (ls : Array Slot) (st' : List Value) (H : Heap) (locs : List Loc) (cells slots : Nat) (i : Instr), (∃ M, L = L0 ++ M) → mx_Hr D cas x A0 L E r.2.2 H → va_S A0 s.heap H locs → c0 + cells = r.2.1.2.1 → k0 + slots = r.2.1.2.2 → decode cc pc = .ok (i, 1) →
    ((i = .ireturn ∧ ∃ v, st' = [.int v] ∧ r.1 = .inl (some (.int v)) ∧ (mx_ret y = some .int ∨ (mx_ret y = some .boolean ∧ (v = 0 ∨ v = 1)))) ∨ (i = .areturn ∧ mx_rr y = true ∧ ∃ v v', st' = [v'] ∧ (v' = .null ∨ ∃ a, v' = .ref a) ∧ mx_V (fun q => L[q]?) x v v' ∧ r.1 = .inl (some v)) ∨ (i = .return_ ∧ st' = [] ∧ mx_ret y = none ∧ r.1 = .inl none)) →
    W p l e R s m args below meth c H locs cells slots Q (F0 m pc ls st')
def mx_EX (p : Program) (l : Launch) (e : Env) (R : Room) (s : State) (m : MethodId) (args : Array Value) (below : List Frame) (meth : Method) (c : Code) (Q : State → Prop) (D : va_G) (cas : Nat → ClassId) (x : Nat → Nat → Prop) (A0 : Nat → Prop) (L0 : List Nat) (c0 k0 : Nat) (y : Nat) (r : mx_R) : Prop :=
  ∀ (L : List Nat) (E : List va_E) (pc : Nat) (ls : Array Slot) (rest : List Value) (H : Heap) (locs : List Loc) (cells slots : Nat) (q : Addr) (ce : Cell) (w : Value) (cn : Nat), (∃ M, L = L0 ++ M) → mx_Hr D cas x A0 L E r.2.2 H → va_S A0 s.heap H locs → c0 + cells = r.2.1.2.1 → k0 + slots = r.2.1.2.2 → r.1 = .inr w → mx_V (fun q => L[q]?) x w (.ref q) → mx_xc r.2 w = some cn →
    H[q]? = some ce → ce.vm = .none → s.vm.findClass (mx_cls cn) = some ce.cls → cn ∈ mx_xs → mx_hit pc cn (mx_hnd y) = none → vx_W p l e R s m args below meth c H locs cells slots Q (F0 m pc ls rest) q
/-- what stands fixed in a frame of method y -/
def mx_Cy (p : Program) (s : State) (m : MethodId) (args : Array Value) (meth : Method) (c : Code) (D : va_G) (cas : Nat → ClassId) (x : Nat → Nat → Prop) (A0 : Nat → Prop) (B : Nat × (Nat → Int32)) (y : Nat) (e : mx_M) : Prop :=
  mx_mi y = some e ∧ mx_Cx p s m args meth c e.2.1 (mx_own y) (mx_isI y) D cas x A0 s.heap ∧ c.maxLocals = mx_max y ∧ meth.locks = false ∧ c.exceptionTable.toList = tableOf (mx_hnd y) ∧ mx_Bs D cas x A0 B s s.heap
def mx_Rk (R : Room) (d c0 k0 : Nat) (r : mx_R) : Prop := d + 40 ≤ R.frames ∧ 10300 + 40 * d ≤ R.locals ∧ c0 + R.cells = r.2.1.2.1 ∧ k0 + R.slots = r.2.1.2.2
def mx_IH (l : Launch) (D : va_G) (cas : Nat → ClassId) (x : Nat → Nat → Prop) (A0 : Nat → Prop) (B : Nat × (Nat → Int32)) (n : Nat) : Prop :=
  ∀ (d y pc : Nat) (lo : mx_L) (st : List Value) (h : mx_H) (r : mx_R), mx_run mx_nx n (d, y, pc, lo, st, h) = some r → h.1.1 = B → ∀ (p : Program) (e : Env) (R : Room) (s : State) (m : MethodId) (args : Array Value) (below : List Frame) (meth : Method) (c : Code) (Q : State → Prop) (L0 : List Nat) (c0 k0 : Nat) (ey : mx_M),
    l.admits e → mx_Cy p s m args meth c D cas x A0 B y ey → mx_Rk R d c0 k0 r → mx_ER p l e R s m args below meth c Q D cas x A0 L0 c0 k0 ey.2.1 y r → mx_EX p l e R s m args below meth c Q D cas x A0 L0 c0 k0 y r →
    mx_G p l e R s m args below meth c Q D cas x A0 s.heap L0 (mx_max y) c0 k0 pc (lo, st, h)
/-! handlers -/
theorem mx_hit_none {pc cn : Nat} : ∀ {hh : List (Nat × Nat × Nat × Nat)}, mx_hit pc cn hh = none → ∀ z ∈ hh, ¬ (z.1 ≤ pc ∧ pc < z.2.1 ∧ mx_xcl z.2.2.2 = some cn)
  | [], _, _, hz => by cases hz
  | (a, b, t, i) :: hh, h, z, hz => by
    unfold mx_hit at h
    split at h
    · cases h
    · rename_i hn
      rcases List.mem_cons.mp hz with e | e
      · subst e; exact hn
      · exact mx_hit_none h z e
theorem mx_hit_some {pc cn t : Nat} : ∀ {hh : List (Nat × Nat × Nat × Nat)}, mx_hit pc cn hh = some t → ∃ pre a b i suf, hh = pre ++ (a, b, t, i) :: suf ∧ (a ≤ pc ∧ pc < b ∧ mx_xcl i = some cn) ∧ ∀ z ∈ pre, ¬ (z.1 ≤ pc ∧ pc < z.2.1 ∧ mx_xcl z.2.2.2 = some cn)
  | [], h => by cases h
  | (a, b, t', i) :: hh, h => by
    unfold mx_hit at h
    split at h
    · rename_i hc
      cases h
      exact ⟨[], a, b, i, hh, rfl, hc, fun z hz => by cases hz⟩
    · rename_i hn
      obtain ⟨pre, a1, b1, i1, suf, e1, e2, e3⟩ := mx_hit_some h
      refine ⟨(a, b, t', i) :: pre, a1, b1, i1, suf, by rw [e1]; rfl, e2, fun z hz => ?_⟩
      rcases List.mem_cons.mp hz with e | e
      · subst e; exact hn
      · exact e3 z e
theorem mx_pass (hM : mx_MOK) {y pc cn : Nat} (hts : ∀ w ∈ lw_all, w.before args s = true) (hB : mx_Bs D cas x A0 B s s.heap) (hcn : cn ∈ mx_xs) {z : Nat × Nat × Nat × Nat} (hz : z ∈ mx_hnd y) (hn : ¬ (z.1 ≤ pc ∧ pc < z.2.1 ∧ mx_xcl z.2.2.2 = some cn)) :
    covers ⟨z.1, z.2.1, z.2.2.1, z.2.2.2⟩ pc = false ∨ (z.2.2.2 ≠ 0 ∧ ∃ nm : String, (Cond.classLink (mx_cls (mx_own y)) z.2.2.2 nm).before args s = true ∧ va_Nc (mx_cls cn) nm s) := by
  by_cases hc : z.1 ≤ pc ∧ pc < z.2.1
  · obtain ⟨h0, c', hc', hx, hl⟩ := hM.2 y z hz
    refine Or.inr ⟨h0, mx_cls c', hts _ hl, hB.2.2.2.2.2.2.2.2.1 cn hcn c' hc' (fun e => hn ⟨hc.1, hc.2, by rw [hx, e]⟩)⟩
  · refine Or.inl ?_
    by_cases h1 : z.1 ≤ pc
    · have h2 : ¬ pc < z.2.1 := fun h2 => hc ⟨h1, h2⟩
      simp [covers, h1, h2]
    · simp [covers, h1]
theorem mx_tab_mem {hh : List (Nat × Nat × Nat × Nat)} {z : ExceptionTableEntry} (h : z ∈ tableOf hh) : ∃ q ∈ hh, z = ⟨q.1, q.2.1, q.2.2.1, q.2.2.2⟩ := by
  obtain ⟨q, h1, h2⟩ := List.mem_map.mp h
  exact ⟨q, h1, h2.symm⟩
/-- a throw within a frame: into its handler, or out -/
theorem mx_thr_ok {n : Nat} (GL : mx_GL) (IH : mx_IH l D cas x A0 B n) {d y pc : Nat} {lo : mx_L} {qv : Value} {h : mx_H} {r : mx_R} {ey : mx_M} (hz : mx_stp (mx_run mx_nx n) (mx_up (mx_thr d y pc lo qv h)) = some r) (hhB : h.1.1 = B)
    (hl : l.admits e) (hC : mx_Cy p s m args meth c D cas x A0 B y ey) (hR : mx_Rk R d c0 k0 r) (hER : mx_ER p l e R s m args below meth c Q D cas x A0 L0 c0 k0 ey.2.1 y r) (hEX : mx_EX p l e R s m args below meth c Q D cas x A0 L0 c0 k0 y r)
    {L : List Nat} {E : List va_E} {lc : mx_L} {ls : Array Slot} {rest : List Value} {H : Heap} {locs : List Loc} {cells slots : Nat} {q : Addr} {ce : Cell} {cn : Nat} (hL : ∃ M, L = L0 ++ M) (hH : mx_Hr D cas x A0 L E h.2 H) (hO : mx_OL (fun q => L[q]?) x lo lc) (hLS : mx_LS ls lc) (hn : lc.length = mx_max y) (hS : va_S A0 s.heap H locs) (hc : c0 + cells = h.1.2.1) (hk : k0 + slots = h.1.2.2)
    (hV : mx_V (fun q => L[q]?) x qv (.ref q)) (hxc : mx_xc h qv = some cn) (hcell : H[q]? = some ce) (hv : ce.vm = .none) (hcl : s.vm.findClass (mx_cls cn) = some ce.cls) (hcn : cn ∈ mx_xs) :
    vx_W p l e R s m args below meth c H locs cells slots Q (F0 m pc ls rest) q := by
  unfold mx_thr at hz
  rw [hxc] at hz
  dsimp only at hz
  obtain ⟨hmi, hCx, hml, hlk, htab, hB⟩ := id hC
  have hts := hCx.2.2.2.2.1
  have hown := hCx.2.2.2.2.2.1
  cases hh : mx_hit pc cn (mx_hnd y) with
  | none =>
    rw [hh] at hz
    have hz : some ((.inr qv, h) : mx_R) = some r := hz
    cases hz
    exact hEX L E pc ls rest H locs cells slots q ce qv cn hL hH hS hc hk rfl hV hxc hcell hv hcl hcn hh
  | some t =>
    rw [hh] at hz
    have hz : mx_run mx_nx n (d, y, t, lo, [qv], h) = some r := hz
    have kk := IH d y t lo [qv] h r hz hhB p e R s m args below meth c Q L0 c0 k0 ey hl hC hR hER hEX L E lc ls [.ref q] H locs cells slots hL hH hO hLS hn ⟨_, _, rfl, hV, rfl⟩ hS hc hk
    obtain ⟨pre, a, b, i, suf, e1, e2, e3⟩ := mx_hit_some hh
    have hsplit : c.exceptionTable.toList = tableOf pre ++ (⟨a, b, t, i⟩ : ExceptionTableEntry) :: tableOf suf := by
      rw [htab, e1]
      unfold tableOf
      rw [List.map_append, List.map_cons]
    have hmem : ((a, b, t, i) : Nat × Nat × Nat × Nat) ∈ mx_hnd y := by rw [e1]; exact List.mem_append_right _ List.mem_cons_self
    obtain ⟨h0, c', hc', hx', hl'⟩ := GL.2.1.2 y _ hmem
    have hcc : c' = cn := by
      have := e2.2.2
      dsimp only at hx'
      rw [hx'] at this
      exact Option.some.inj this
    subst hcc
    refine vx_catch hown (tableOf pre) ⟨a, b, t, i⟩ (tableOf suf) hsplit (fun z hzm => ?_) (by simp [covers, e2.1, e2.2.1]) h0 (hts _ hl') (va_Nw.use rfl (hB.1.1 _ (GL.2.2.1 c' hcn) rfl)) hcell hv hcl kk
    obtain ⟨z', hz', rfl⟩ := mx_tab_mem hzm
    exact mx_pass GL.2.1 hts hB hcn (by rw [e1]; exact List.mem_append_left _ hz') (e3 z' hz')
end MXF
end MXC
section MXD
variable {D : va_G} {cas : Nat → ClassId} {x : Nat → Nat → Prop} {A0 : Nat → Prop} {B : Nat × (Nat → Int32)} {l : Launch}
theorem mx_xc_in {h : mx_H} {q : Value} {c : Nat} (hc : mx_xc h q = some c) : c ∈ mx_xs := by
  unfold mx_xc at hc
  split at hc
  · obtain ⟨z, -, e⟩ := Option.bind_eq_some_iff.mp hc
    exact (mx_xg_in e).2
  · split at hc
    · exact (mx_xg_in hc).2
    · cases hc
  · cases hc
theorem mx_ins_inv {y pc : Nat} {ey : mx_M} {i : Instr} {n : Nat} (hm : mx_mi y = some ey) (h : mx_ins y pc = some (i, n)) : decode ey.2.1 pc = .ok (i, n) ∧ mx_okl pc i n = true := by
  unfold mx_ins at h
  rw [hm] at h
  dsimp only at h
  split at h
  · rename_i r hd
    split at h
    · rename_i hk
      cases h
      exact ⟨hd, hk⟩
    · cases h
  · cases h
/-- a run of a call, by the length of its instruction -/
def mx_Rn (len : Nat) (p : Program) (l : Launch) (e : Env) (R : Room) (s : State) (m : MethodId) (args : Array Value) (below : List Frame) (meth : Method) (c : Code) (H : Heap) (locs : List Loc) (cells slots mc ms : Nat) (g : JFrame) (rest : List Value) (Qa : State → Outcome → State → Prop) (XC : Addr → String → State → State → Prop) (free : Addr → Prop) : Prop :=
  ∀ T : State, T.heap = H → Stand p l e R s m args below meth c T locs cells slots →
    (∃ (v : Option Value) (st₀ t T' : State) (L : List Loc), st₀.heap = H ∧ Stand p l e R s m args below meth c T' (locs ++ L) (cells + mc) (slots + ms) ∧ (∀ q ∈ L, free q.base) ∧ T'.heap = t.heap ∧ T'.vm = t.vm ∧ Qa st₀ (.returned v) t ∧
      Goes p e below T g T' { g with pc := g.pc + len, stack := v.toList ++ rest }) ∨
    (∃ (q : Addr) (st₀ t T' : State) (L : List Loc) (E : String) (ce : Cell), st₀.heap = H ∧ Stand p l e R s m args below meth c T' (locs ++ L) (cells + mc) (slots + ms) ∧ (∀ z ∈ L, free z.base) ∧ T'.heap = t.heap ∧ T'.vm = t.vm ∧ XC q E st₀ t ∧ t.heap[q]? = some ce ∧ ce.vm = .none ∧ s.vm.findClass E = some ce.cls ∧
      Steps p.tables e below (T.setTop g) ((T'.setTop { g with stack := rest }).pushFrame (.throwing q)))
def mx_OI (oc j : Nat) (i : Instr) (n : Nat) : Prop := (oc = 0 ∧ i = .invokestatic j ∧ n = 3) ∨ (oc = 1 ∧ i = .invokespecial j ∧ n = 3) ∨ (oc = 2 ∧ i = .invokevirtual j ∧ n = 3) ∨ (oc = 3 ∧ n = 5 ∧ ∃ k, i = .invokeinterface j k)
/-- what is owed of the calls' table -/
def mx_CallOK (l : Launch) (D : va_G) (cas : Nat → ClassId) (x : Nat → Nat → Prop) (A0 : Nat → Prop) (B : Nat × (Nat → Int32)) : Prop :=
  ∀ (oc o j rc kd y' na : Nat) (fr : Bool), mx_ina o j = some (na, fr, oc) → mx_inv o j rc = some (kd, y') → kd < 20 → ∃ e' : mx_M, mx_mi y' = some e' ∧ e'.2.2.2.2.1 ≠ 37 ∧ (fr = false → rc < 43 ∧ 0 < na) ∧
    ∀ (i : Instr) (n : Nat), mx_OI oc j i n → ∀ (p : Program) (e : Env) (R : Room) (s : State) (m : MethodId) (args : Array Value) (below : List Frame) (meth : Method) (c : Code) (cc : ByteArray), l.admits e → p.tables.exec = Jvm.exec → c.code = cc → s.vm.findClass (mx_cls o) = some m.cls → (∀ w ∈ lw_all, w.before args s = true) → mx_Bs D cas x A0 B s s.heap →
      ∀ (H : Heap) (locs : List Loc) (cells slots mc ms : Nat) (rm : Room) (Pc : Array Value → State → Prop) (Qc : Array Value → State → Outcome → State → Prop) (XC : Addr → String → State → State → Prop) (av rest : List Value) (pc : Nat) (ls : Array Slot), vx_Met l e'.1 (mx_cwd e' :: lw_all) rm Pc Qc XC mc ms A0 → rm.cells = mc → rm.slots = ms → rm.frames + 1 ≤ R.frames → 8 + (e'.2.2.1 + 11) + rm.locals ≤ R.locals → FrameBlind Pc → av.length = na →
        (fr = false → ∃ (b : Addr) (As : List Value) (cellB : Cell) (r : vw_C), av = .ref b :: As ∧ H[b]? = some cellB ∧ cellB.vm.isStatics = false ∧ mx_cl[rc]? = some r ∧ s.vm.findClass r.1 = some cellB.cls) → ls.size = c.maxLocals → mx_csz rest ≤ 8 → decode cc pc = .ok (i, n) → (∀ U : State, U.heap = H → s.WarmedH U.vm → Pc av.toArray U) → cells + mc ≤ R.cells ∧ slots + ms ≤ R.slots →
        mx_Rn n p l e R s m args below meth c H locs cells slots mc ms (F0 m pc ls (av.reverse ++ rest)) rest (Qc av.toArray) XC A0
/-- what is owed of the calls that are steps -/
def mx_PrimOK (l : Launch) (D : va_G) (cas : Nat → ClassId) (x : Nat → Nat → Prop) (A0 : Nat → Prop) (B : Nat × (Nat → Int32)) : Prop :=
  ∀ (oc o j rc kd y' na : Nat) (fr : Bool), mx_ina o j = some (na, fr, oc) → mx_inv o j rc = some (kd, y') → 20 ≤ kd → ∀ (i : Instr) (n : Nat), mx_OI oc j i n → ∀ (p : Program) (e : Env) (R : Room) (s : State) (m : MethodId) (args : Array Value) (below : List Frame) (meth : Method) (c : Code) (cc : ByteArray) (Q : State → Prop) (L0 : List Nat) (nL c0 k0 : Nat) (ini : Bool),
    l.admits e → mx_Cx p s m args meth c cc o ini D cas x A0 s.heap → mx_Bs D cas x A0 B s s.heap → c.maxLocals = nL → 40 ≤ R.frames → 10300 ≤ R.locals → ∀ (lo : mx_L) (as rest : List Value) (h h' : mx_H) (v : Option Value) (pc : Nat), mx_prim kd as h = some (v, h') → as.length = na → mx_csz rest ≤ 8 → h'.1.2.1 ≤ c0 + R.cells ∧ h'.1.2.2 ≤ k0 + R.slots → decode cc pc = .ok (i, n) →
      mx_G p l e R s m args below meth c Q D cas x A0 s.heap L0 nL c0 k0 (pc + n) (lo, mx_psv v rest, h') → mx_G p l e R s m args below meth c Q D cas x A0 s.heap L0 nL c0 k0 pc (lo, as.reverse ++ rest, h)
/-- what is owed of the machine's own throws -/
def mx_VmOK (l : Launch) (D : va_G) (cas : Nat → ClassId) (x : Nat → Nat → Prop) (A0 : Nat → Prop) (B : Nat × (Nat → Int32)) : Prop :=
  ∀ (p : Program) (e : Env) (R : Room) (s : State) (m : MethodId) (args : Array Value) (below : List Frame) (meth : Method) (c : Code) (cc : ByteArray) (Q : State → Prop) (o pc : Nat) (ls : Array Slot) (H : Heap) (locs : List Loc) (cells slots : Nat) (i : Instr) (n : Nat) (st' : List Value) (cn : Nat),
    l.admits e → p.tables.exec = Jvm.exec → c.code = cc → s.vm.findClass (mx_cls o) = some m.cls → (∀ w ∈ lw_all, w.before args s = true) → mx_Bs D cas x A0 B s s.heap → meth.locks = false → va_S A0 s.heap H locs → ls.size = c.maxLocals → 40 ≤ R.frames → 10300 ≤ R.locals → cells + 3 ≤ R.cells → slots + mx_NB ≤ R.slots → decode cc pc = .ok (i, n) →
    ((cn = 42 ∧ n = 1 ∧ i = .idiv ∧ ∃ a rest, st' = .int 0 :: .int a :: rest ∧ mx_csz rest ≤ 8) ∨ (cn = 41 ∧ n = 2 ∧ ∃ a k rest, i = .newarray a ∧ st' = .int k :: rest ∧ k < 0 ∧ mx_csz rest ≤ 8) ∨
      (cn = 40 ∧ n = 3 ∧ ∃ j a rest k t, i = .checkcast j ∧ st' = .ref a :: rest ∧ mx_csz rest ≤ 8 ∧ mx_tgt o j = some t ∧ mx_cast k t = some false ∧ ∃ cell : Cell, H[a]? = some cell ∧ cell.vm.isStatics = false ∧ s.vm.findClass (mx_tnm k) = some cell.cls)) →
    (∀ (rest' : List Value) (H1 : Heap) (q9 : Addr) (ce : Cell), H.size ≤ H1.size → (∀ q : Nat, q < H.size → H1[q]? = H[q]?) → va_S A0 s.heap H1 locs → H1[q9]? = some ce → ce.vm = .none → s.vm.findClass (mx_cls cn) = some ce.cls → vx_W p l e R s m args below meth c H1 locs (cells + 3) (slots + mx_NB) Q (F0 m pc ls rest') q9) →
    W p l e R s m args below meth c H locs cells slots Q (F0 m pc ls st')
theorem mx_mi_own {y : Nat} {e : mx_M} (h : mx_mi y = some e) : mx_own y = e.2.2.2.2.1 := by unfold mx_own; rw [h]; rfl
theorem mx_mi_ret {y : Nat} {e : mx_M} (h : mx_mi y = some e) : mx_ret y = e.2.2.2.1 := by unfold mx_ret; rw [h]; rfl
theorem mx_mi_max {y : Nat} {e : mx_M} (h : mx_mi y = some e) : mx_max y = e.2.2.1 := by unfold mx_max; rw [h]; rfl
theorem mx_mi_hnd {y : Nat} {e : mx_M} (h : mx_mi y = some e) : mx_hnd y = e.2.2.2.2.2.2 := by unfold mx_hnd; rw [h]; rfl
theorem mx_mi_isI {y : Nat} {e : mx_M} (h : mx_mi y = some e) : mx_isI y = (e.1.name == "<init>") := by unfold mx_isI; rw [h]; rfl
/-- the end of a callee -/
theorem mx_er_met {p : Program} {e : Env} {R : Room} {s : State} {m : MethodId} {args : Array Value} {below : List Frame} {meth : Method} {c : Code} {L : List Nat} {c0 k0 mc ms y : Nat} {cc : ByteArray} {r : mx_R} (hx : p.tables.exec = Jvm.exec) (hb : c.code = cc) (hret : meth.sig.returnType = mx_ret y) (hlk : meth.locks = false) (hmc : c0 + mc = r.2.1.2.1) (hms : k0 + ms = r.2.1.2.2) :
    mx_ER p l e R s m args below meth c (vx_MQ below (mx_Qc D cas x A0 L r) (mx_XC D cas x A0 L r) args s mc ms A0) D cas x A0 L c0 k0 cc y r := by
  intro L' E pc ls st' H locs cells slots i ⟨M, hL⟩ hH hS hc hk hd hcase
  have e1 : cells = mc := by omega
  have e2 : slots = ms := by omega
  subst e1; subst e2
  subst hL
  have hq : ∀ (v v' : Option Value), r.1 = .inl v → mx_O1 (fun q => (L ++ M)[q]?) x v v' → ∀ t : State, t.heap = H → s.WarmedH t.vm → mx_Qc D cas x A0 L r args s (.returned v') t := fun v v' h1 h2 t ht _ => ⟨hS.F ht, v, v', M, E, h1, rfl, h2, by rw [ht]; exact hH⟩
  rcases hcase with ⟨rfl, v, rfl, hr1, hty⟩ | ⟨rfl, hrr, v, v', rfl, hv', hV, hr1⟩ | ⟨rfl, rfl, hty, hr1⟩
  · rcases hty with hty | ⟨hty, hv⟩
    · exact vx_ret (W.iret hx hb (by rw [hret]; exact hty) (hq _ _ hr1 ⟨_, rfl, rfl⟩) hS.2.2 hd hlk)
    · exact vx_ret (W.zret hx hb (by rw [hret]; exact hty) (by rcases hv with z | z <;> (subst z; rfl)) (hq _ _ hr1 ⟨_, rfl, rfl⟩) hS.2.2 hd hlk)
  · unfold mx_rr at hrr
    split at hrr
    · rename_i n hn
      exact vx_ret (W.aret hx hb (hret.trans hn) (Or.inl ⟨_, rfl⟩) hv' (hq _ _ hr1 ⟨_, rfl, hV⟩) hS.2.2 hd hlk)
    · rename_i n hn
      exact vx_ret (W.aret hx hb (hret.trans hn) (Or.inr ⟨_, rfl⟩) hv' (hq _ _ hr1 ⟨_, rfl, hV⟩) hS.2.2 hd hlk)
    · cases hrr
  · exact vx_ret (W.vret hx hb (hret.trans hty) (hq _ _ hr1 rfl) hS.2.2 hd hlk)
theorem mx_ex_met {p : Program} {e : Env} {R : Room} {s : State} {m : MethodId} {args : Array Value} {below : List Frame} {meth : Method} {c : Code} {L : List Nat} {c0 k0 mc ms y : Nat} {r : mx_R} (hM : mx_MOK) (hts : ∀ w ∈ lw_all, w.before args s = true) (hown : s.vm.findClass (mx_cls (mx_own y)) = some m.cls) (hB : mx_Bs D cas x A0 B s s.heap) (htab : c.exceptionTable.toList = tableOf (mx_hnd y)) (hlk : meth.locks = false) (hmc : c0 + mc = r.2.1.2.1) (hms : k0 + ms = r.2.1.2.2) :
    mx_EX p l e R s m args below meth c (vx_MQ below (mx_Qc D cas x A0 L r) (mx_XC D cas x A0 L r) args s mc ms A0) D cas x A0 L c0 k0 y r := by
  intro L' E pc ls rest H locs cells slots q ce w cn ⟨M, hL⟩ hH hS hc hk hr1 hV hxc hcell hv hcl hcn hh
  subst hL
  refine vx_outP (E := mx_cls cn) hown hlk (fun z hz => ?_) hcell hv hcl (fun t ht hal => ⟨hS.F ht, w, cn, M, E, hr1, hV, hxc, rfl, by rw [ht]; exact hH⟩) hS.2.2 (by omega) (by omega)
  rw [htab] at hz
  obtain ⟨z', hz', rfl⟩ := mx_tab_mem hz
  exact mx_pass hM hts hB hcn hz' (mx_hit_none hh z' hz')
/-- a method's contract -/
theorem mx_met {n : Nat} (GL : mx_GL) (IH : mx_IH l D cas x A0 B n) {d y : Nat} {as av : List Value} {h : mx_H} {r : mx_R} {L : List Nat} {E : List va_E} {ey : mx_M} (hmi : mx_mi y = some ey) (h37 : ey.2.2.2.2.1 ≠ 37) (hrun : mx_run mx_nx n (mx_ent d y as h) = some r) (hhB : h.1.1 = B) (hV : mx_VL (fun q => L[q]?) x as av) (hsz : mx_csz as ≤ mx_max y) :
    vx_Met l ey.1 (mx_cwd ey :: lw_all) (mx_rm d (r.2.1.2.1 - h.1.2.1) (r.2.1.2.2 - h.1.2.2)) (mx_Pc D cas x A0 B L E av h.2) (mx_Qc D cas x A0 L r) (mx_XC D cas x A0 L r) (r.2.1.2.1 - h.1.2.1) (r.2.1.2.2 - h.1.2.2) A0 := by
  have hle := mx_run_qle n _ r hrun
  have hle2 : h.1.2.1 ≤ r.2.1.2.1 ∧ h.1.2.2 ≤ r.2.1.2.2 := ⟨hle.2.1, hle.2.2⟩
  have hME := GL.2.1.1 y ey hmi h37
  obtain ⟨hcls, hpl, -, hcw, -⟩ := hME
  have main : ∀ (p : Program) (e : Env) (s : State) (m : MethodId) (args : Array Value) (below : List Frame) (meth : Method) (c : Code) (s₁ : State), BodyLoose p l ey.1 (headSpec (mx_cwd ey :: lw_all) (mx_rm d (r.2.1.2.1 - h.1.2.1) (r.2.1.2.2 - h.1.2.2))) ey.2.1 ey.2.2.1 ey.2.2.2.1 e s m args below meth c s₁ → c.maxLocals = ey.2.2.1 → c.exceptionTable.toList = tableOf (mx_hnd y) → mx_Pc D cas x A0 B L E av h.2 args s →
      W p l e (headSpec (mx_cwd ey :: lw_all) (mx_rm d (r.2.1.2.1 - h.1.2.1) (r.2.1.2.2 - h.1.2.2))).room s m args below meth c s.heap [] 0 0 (vx_MQ below (mx_Qc D cas x A0 L r) (mx_XC D cas x A0 L r) args s (r.2.1.2.1 - h.1.2.1) (r.2.1.2.2 - h.1.2.2) A0) (entryFrame m args ey.2.2.1) := by
    intro p e s m args below meth c s₁ Bd hml htab hPc
    obtain ⟨hargs, hBs, hHr⟩ := hPc
    have hpre : ∀ w ∈ mx_cwd ey :: lw_all, w.before args s = true := atoms_spec Bd.pre
    have hts : ∀ w ∈ lw_all, w.before args s = true := fun w hw => hpre w (List.mem_cons_of_mem _ hw)
    have hown : s.vm.findClass (mx_cls (mx_own y)) = some m.cls := by
      rw [mx_mi_own hmi, ← hcls]
      exact findClass_of_methodNamed Bd.named
    have hini : mx_isI y = true → meth.name = "<init>" := by
      intro hI
      rw [mx_mi_isI hmi] at hI
      rw [(name_of_methodNamed Bd.named Bd.method).1]
      exact eq_of_beq hI
    have hret : meth.sig.returnType = mx_ret y := by rw [mx_mi_ret hmi]; exact Bd.returns
    have hCx : mx_Cx p s m args meth c ey.2.1 (mx_own y) (mx_isI y) D cas x A0 s.heap := by
      refine ⟨Bd.exec, Bd.bytes, GL.1, hBs.1, hts, hown, hini, hBs.2.1, GL.2.2.2.1, fun k q hk hq => ?_⟩
      have hl18 : ∃ tx, mx_len k = some tx := by
        unfold mx_len
        exact ⟨_, List.getElem?_eq_getElem (by simpa using hk)⟩
      obtain ⟨tx, htx⟩ := hl18
      obtain ⟨⟨cell, g1, g2, g3, g4⟩, -⟩ := hBs.2.2.2.1 k q tx htx hq
      exact ⟨cell, g1, g2, g3, g4⟩
    have hCy : mx_Cy p s m args meth c D cas x A0 B y ey := ⟨hmi, hCx, by rw [mx_mi_max hmi]; exact hml, Bd.notSynchronized, htab, hBs⟩
    have hmc : h.1.2.1 + (r.2.1.2.1 - h.1.2.1) = r.2.1.2.1 := by omega
    have hms : h.1.2.2 + (r.2.1.2.2 - h.1.2.2) = r.2.1.2.2 := by omega
    have kk := IH d y 0 (mx_pad (mx_max y) (mx_lo0 as)) [] h r hrun hhB p e (mx_rm d (r.2.1.2.1 - h.1.2.1) (r.2.1.2.2 - h.1.2.2)) s m args below meth c _ L h.1.2.1 h.1.2.2 ey Bd.admits hCy ⟨Nat.le_refl _, Nat.le_refl _, hmc, hms⟩
      (mx_er_met Bd.exec Bd.bytes hret Bd.notSynchronized hmc hms) (mx_ex_met GL.2.1 hts hown hBs htab Bd.notSynchronized hmc hms)
    have hsz' : mx_csz av ≤ mx_max y := by rw [hV.csz]; exact hsz
    have hpad : mx_OL (fun q => L[q]?) x (mx_pad (mx_max y) (mx_lo0 as)) (mx_pad (mx_max y) (mx_lo0 av)) := mx_OL.entry hV
    have k2 := kk L E (mx_pad (mx_max y) (mx_lo0 av)) _ [] s.heap [] 0 0 ⟨[], by simp⟩ hHr hpad (mx_LS.entry hsz') (mx_pad_len hsz') rfl va_S.rf rfl rfl
    refine W.eq ?_ k2
    rw [hargs, lg_entry_eq, mx_mi_max hmi]
  have hw : mx_cwd ey :: lw_all = mx_cwd ey :: lw_all := rfl
  rcases hhn : ey.2.2.2.2.2.2 with _ | ⟨z, hh⟩
  · have hcode : mx_cwd ey = Cond.code ey.1 ey.2.1 ey.2.2.1 ey.2.2.2.1 := by unfold mx_cwd; rw [hhn]
    refine vx_ofW (cc := ey.2.1) (maxL := ey.2.2.1) (ret := ey.2.2.2.1) (ws' := lw_all) hpl (by rw [hcode]) (fun p e s m args below meth c s₁ Bd hml hex hPc => main p e s m args below meth c s₁ Bd hml ?_ hPc)
    rw [mx_mi_hnd hmi, hhn]
    show _ = []
    cases hcl : c.exceptionTable.toList with
    | nil => rfl
    | cons a as => exact (hex a (by rw [hcl]; exact List.mem_cons_self)).elim
  · have hcode : mx_cwd ey = Cond.codeWith ey.1 ey.2.1 ey.2.2.1 ey.2.2.2.1 (z :: hh) := by unfold mx_cwd; rw [hhn]
    refine vx_ofWH (cc := ey.2.1) (maxL := ey.2.2.1) (ret := ey.2.2.2.1) (hh := z :: hh) (ws' := lw_all) hpl (by rw [hcode]) (fun p e s m args below meth c s₁ Bd hml hPc => main p e s m args below meth c s₁ Bd hml ?_ hPc)
    rw [mx_mi_hnd hmi, hhn]
    exact vx_table (x := ey.1) (y := ey.1) Bd (by have := atoms_spec Bd.pre _ List.mem_cons_self; rw [hcode] at this; exact this)
end MXD
