/-! BASE: the world as a map from addresses to what lies there; contracts over heaps; rows over both -/
set_option maxRecDepth 100000
def CL : List vw_C := [(RX0, TX0, 47), (RX1, TX1, 6), (RX2, TX2, 1), (RX3, TX3, 6), (RX4, TX4, 3), (RX5, TX5, 67), (RX6, TX6, 2), (RX7, TX7, 3), (RX8, TX8, 3), (RX10, TX10, 1), (RX11, TX11, 2), (RX12, TX12, 2), (RX13, TX13, 3), (RX14, TX14, 2), (RX15, TX15, 3), (RX16, TX16, 3), (RX17, TX17, 4), (RX18, TX18, 4), (RX19, TX19, 5), (RX20, TX20, 3), (RX21, TX21, 4)]
abbrev DD : Type := va_G × (Nat → ClassId)
def arT : Nat → FieldType := fun k => match k with
  | 0 => .int
  | 1 => .byte
  | 2 => .short
  | 3 => .long
  | 4 => .boolean
  | 5 => .object "NailedByWord$Change"
  | 6 => .object "NailedByWord$Person"
  | 7 => .object "NailedByWord$Promise"
  | 8 => .object "NailedByWord$Body"
  | 9 => .object "java/lang/Object"
  | _ => .object "NailedByWord$Held"
/-- what the machine knows of the classes and of the array classes -/
def EM (D : DD) (U : State) : Prop := (∀ (k : Nat) (q : vw_C), CL[k]? = some q → u_Kn U q.1 q.2.1 q.2.2 (D.1.1 k) (D.1.2 k)) ∧ ∀ k : Nat, k < 11 → ArrOfT U (D.2 k) (arT k) ∧ va_RA U (D.2 k) (arT k)
def Mov (E : State → Prop) : Prop := ∀ s U : State, s.WarmedH U.vm → E s → E U
theorem EM_mov (D : DD) : Mov (EM D) := fun _ _ hW h => ⟨fun k q hq => u_Kn_moved hW.alike (h.1 k q hq), fun k hk => ⟨arrOfT_moved hW.alike (h.2 k hk).1, (h.2 k hk).2.moved hW.alike⟩⟩
abbrev HH : Type := Nat → Option va_E
def HP (D : DD) (hh : HH) (H : Heap) : Prop := ∀ (a : Nat) (e : va_E), hh a = some e → va_at D.1 CL (a, e) H
theorem HP.lt {D : DD} {hh : HH} {H : Heap} (h : HP D hh H) {a : Nat} {e : va_E} (ha : hh a = some e) : a < H.size := va_at.lt (q := (a, e)) (h a e ha)
theorem HP.set {D : DD} {hh : HH} {H H1 : Heap} {a : Nat} {e : va_E} (h : HP D hh H) (he : va_at D.1 CL (a, e) H1) (oq : ∀ q : Nat, q ≠ a → H1[q]? = H[q]?) : HP D (va_up hh a (some e)) H1 := by
  intro b e' hb
  by_cases hba : b = a
  · subst hba
    simp only [va_up, if_pos] at hb
    cases hb
    exact he
  · rw [va_up, if_neg hba] at hb
    exact (h b e' hb).kept (oq b hba)
theorem HP.kept {D : DD} {hh : HH} {H H1 : Heap} (h : HP D hh H) (hk : ∀ (a : Nat) (e : va_E), hh a = some e → H1[a]? = H[a]?) : HP D hh H1 := fun a e ha => (h a e ha).kept (hk a e ha)
theorem HP.sub {D : DD} {hh h2 : HH} {H : Heap} (h : HP D hh H) (hk : ∀ (a : Nat) (e : va_E), h2 a = some e → hh a = some e) : HP D h2 H := fun a e ha => h a e (hk a e ha)
theorem va_upS {α : Type} (f : Nat → α) (k : Nat) (v : α) : va_up f k v k = v := by simp [va_up]
theorem va_upN {α : Type} {f : Nat → α} {k j : Nat} {v : α} (h : j ≠ k) : va_up f k v j = f j := by simp [va_up, h]
theorem rng_get (n : Nat) (f : Nat → Value) (k : Nat) (hk : k < n) : ((List.range n).map f)[k]? = some (f k) := by
  simp [hk]
theorem rng_len (n : Nat) (f : Nat → Value) : ((List.range n).map f).length = n := by simp
theorem rng_set (n : Nat) (f : Nat → Value) (k : Nat) (v : Value) : ((List.range n).map f).set k v = (List.range n).map (va_up f k v) := by
  apply List.ext_getElem?
  intro j
  by_cases hj : j < n
  · by_cases hk : k = j
    · subst hk
      simp [hj, va_up]
    · rw [List.getElem?_set_ne hk]
      simp [hj, va_up, Ne.symm hk]
  · rw [List.getElem?_eq_none (by simp; omega), List.getElem?_eq_none (by simp; omega)]
/-! contracts -/
abbrev Qi_ (Q : Int32 → Heap → Prop) (A : Nat → Prop) : Array Value → State → Outcome → State → Prop := va_Qi (S := Heap) (fun r h => Q r h) (fun h t => t.heap = h) A
abbrev Ql_ (Q : Int64 → Heap → Prop) (A : Nat → Prop) : Array Value → State → Outcome → State → Prop := va_Ql (S := Heap) (fun r h => Q r h) (fun h t => t.heap = h) A
abbrev Qv_ (Q : Heap → Prop) (A : Nat → Prop) : Array Value → State → Outcome → State → Prop := va_Qv (S := Heap) (fun h => Q h) (fun h t => t.heap = h) A
abbrev Qq_ (Q : Option Nat → Heap → Prop) (A : Nat → Prop) : Array Value → State → Outcome → State → Prop := va_Qq (S := Heap) (fun r h => Q r h) (fun h t => t.heap = h) A
abbrev Pc_ (E : State → Prop) (as : List Value) (P : Heap → Prop) : Array Value → State → Prop := va_Pc as (fun U => P U.heap ∧ E U)
abbrev rm_ (f lo mc ms : Nat) : Room := { frames := f, cells := mc, slots := ms, locals := lo }
abbrev CTi (l : Launch) (E : State → Prop) (y : MethodName) (b : ByteArray) (L : Nat) (rt : FieldType) (f lo mc ms : Nat) (A : Nat → Prop) (as : List Value) (P : Heap → Prop) (Q : Int32 → Heap → Prop) : Prop :=
  Met l y (ws_ y b L (some rt)) (rm_ f lo mc ms) (Pc_ E as P) (Qi_ Q A) mc ms A
abbrev CTl (l : Launch) (E : State → Prop) (y : MethodName) (b : ByteArray) (L : Nat) (f lo mc ms : Nat) (A : Nat → Prop) (as : List Value) (P : Heap → Prop) (Q : Int64 → Heap → Prop) : Prop :=
  Met l y (ws_ y b L (some .long)) (rm_ f lo mc ms) (Pc_ E as P) (Ql_ Q A) mc ms A
abbrev CTv (l : Launch) (E : State → Prop) (y : MethodName) (b : ByteArray) (L : Nat) (f lo mc ms : Nat) (A : Nat → Prop) (as : List Value) (P : Heap → Prop) (Q : Heap → Prop) : Prop :=
  Met l y (ws_ y b L none) (rm_ f lo mc ms) (Pc_ E as P) (Qv_ Q A) mc ms A
abbrev CTq (l : Launch) (E : State → Prop) (y : MethodName) (b : ByteArray) (L : Nat) (rt : FieldType) (f lo mc ms : Nat) (A : Nat → Prop) (as : List Value) (P : Heap → Prop) (Q : Option Nat → Heap → Prop) : Prop :=
  Met l y (ws_ y b L (some rt)) (rm_ f lo mc ms) (Pc_ E as P) (Qq_ Q A) mc ms A
theorem Pc_blind {E : State → Prop} (hE : Mov E) {as : List Value} {P : Heap → Prop} : FrameBlind (Pc_ E as P) := by
  intro a U g mk h
  exact ⟨h.1, h.2.1, hE U _ (State.WarmedH.refl U) h.2.2⟩
/-- a method's start -/
theorem ct_of {l : Launch} {E : State → Prop} {y : MethodName} {b : ByteArray} {L : Nat} {rt : Option FieldType} {f lo mc ms : Nat} {A : Nat → Prop} {as : List Value} {P : Heap → Prop} {Qc : Array Value → State → Outcome → State → Prop} (hy : plainName y.cls = true) (hn : (lg_sl as).length ≤ L)
    (body : ∀ {p : Program} {e : Env} {s : State} {m : MethodId} {args : Array Value} {below : List Frame} {meth : Method} {c : Code}, p.tables.exec = Jvm.exec → c.code = b → meth.sig.returnType = rt → c.maxLocals = L → (∀ w ∈ lw_all, w.before args s = true) → s.vm.findClass y.cls = some m.cls → meth.locks = false → meth.name = y.name → E s → P s.heap → ∀ ls : Array Slot, lv_has ls L (lv_args 0 as) →
      W p l e (rm_ f lo mc ms) s m args below meth c s.heap [] 0 0 (MQ below Qc args s mc ms A) (F0 m 0 ls [])) : Met l y (ws_ y b L rt) (rm_ f lo mc ms) (Pc_ E as P) Qc mc ms A := by
  refine Met.ofW (cc := b) (maxL := L) (ret := rt) hy rfl ?_
  intro p e s m args below meth c s₁ B hml hv
  obtain ⟨rfl, hP, hE⟩ := hv
  have hts := atoms_spec (ws := ws_ y b L rt) B.pre
  have hts : ∀ w ∈ lw_all, w.before _ s = true := fun w h => hts w (List.mem_cons_of_mem _ h)
  have hl := lv_entry as (n := L) hn
  rw [lg_entry_eq]
  exact body B.exec B.bytes B.returns hml hts (findClass_of_methodNamed B.named) B.notSynchronized (name_of_methodNamed B.named B.method).1 hE hP _ hl
section BR
variable {p : Program} {l : Launch} {e : Env} {R : Room} {s : State} {m : MethodId} {args : Array Value} {below : List Frame} {meth : Method} {c : Code} {H H0 : Heap} {locs : List Loc} {cells slots : Nat} {Q : State → Prop}
variable {cc : ByteArray} {pc : Nat} {ls : Array Slot} {rest st : List Value} {A A0 A1 : Nat → Prop} {E : State → Prop}
theorem ci_ret {Qf : Int32 → Heap → Prop} {v : Int32} {ty : FieldType} (hx : p.tables.exec = Jvm.exec) (hb : c.code = cc) (hr : meth.sig.returnType = some ty) (hlk : meth.locks = false) (hS : va_S A s.heap H locs) (hn : narrow ty (.int v) = .int v) (hq : Qf v H) (hdg : decode cc pc = .ok (.ireturn, 1)) :
    W p l e R s m args below meth c H locs cells slots (MQ below (Qi_ Qf A) args s cells slots A) (F0 m pc ls [.int v]) :=
  W.zret hx hb hr hn (fun _ ht _ => ⟨⟨v, H, rfl, hq, ht⟩, hS.F ht⟩) hS.2.2 hdg hlk
theorem cl_ret {Qf : Int64 → Heap → Prop} {v : Int64} (hx : p.tables.exec = Jvm.exec) (hb : c.code = cc) (hr : meth.sig.returnType = some .long) (hlk : meth.locks = false) (hS : va_S A s.heap H locs) (hq : Qf v H) (hdg : decode cc pc = .ok (.lreturn, 1)) :
    W p l e R s m args below meth c H locs cells slots (MQ below (Ql_ Qf A) args s cells slots A) (F0 m pc ls [.long v]) :=
  W.lret hx hb hr (fun _ ht _ => ⟨⟨v, H, rfl, hq, ht⟩, hS.F ht⟩) hS.2.2 hdg hlk
theorem cv_ret {Qf : Heap → Prop} (hx : p.tables.exec = Jvm.exec) (hb : c.code = cc) (hr : meth.sig.returnType = none) (hlk : meth.locks = false) (hS : va_S A s.heap H locs) (hq : Qf H) (hdg : decode cc pc = .ok (.return_, 1)) :
    W p l e R s m args below meth c H locs cells slots (MQ below (Qv_ Qf A) args s cells slots A) (F0 m pc ls []) :=
  W.vret hx hb hr (fun _ ht _ => ⟨⟨H, rfl, hq, ht⟩, hS.F ht⟩) hS.2.2 hdg hlk
theorem cq_ret {Qf : Option Nat → Heap → Prop} {v : Option Nat} {rt : FieldType} (hx : p.tables.exec = Jvm.exec) (hb : c.code = cc) (hr : meth.sig.returnType = some rt) (hrt : (∃ n, rt = .object n) ∨ ∃ t, rt = .array t) (hlk : meth.locks = false) (hS : va_S A s.heap H locs) (hq : Qf v H) (hdg : decode cc pc = .ok (.areturn, 1)) :
    W p l e R s m args below meth c H locs cells slots (MQ below (Qq_ Qf A) args s cells slots A) (F0 m pc ls [va_rf v]) :=
  W.aret hx hb hr hrt (by cases v with
    | none => exact Or.inl rfl
    | some a => exact Or.inr ⟨a, rfl⟩) (fun _ ht _ => ⟨⟨v, H, rfl, hq, ht⟩, hS.F ht⟩) hS.2.2 hdg hlk
/-- what a call needs of its place -/
abbrev Cx (p : Program) (m : MethodId) (c : Code) (cc : ByteArray) (L : Nat) (s : State) (args : Array Value) (own : String) (E : State → Prop) : Prop := p.tables.exec = Jvm.exec ∧ c.code = cc ∧ c.maxLocals = L ∧ s.vm.findClass own = some m.cls ∧ (∀ w ∈ lw_all, w.before args s = true) ∧ E s ∧ Mov E
abbrev hdV (y : MethodName) (n : Nat) : Prop := y.cls = y.cls ∧ y.cls ≠ "java/lang/invoke/MethodHandle" ∧ y.cls ≠ "java/lang/invoke/VarHandle" ∧ (parseMethodDescriptor y.desc).map (fun d => d.parameters.length) = some n
abbrev hdS (y : MethodName) (n : Nat) : Prop := y.cls ≠ "java/lang/invoke/MethodHandle" ∧ y.cls ≠ "java/lang/invoke/VarHandle" ∧ (parseMethodDescriptor y.desc).map (fun d => d.parameters.length) = some n
theorem hdVS {y : MethodName} {n : Nat} (h : hdV y n) : hdS y n := h.2
/-- the run of a call through an object -/
theorem runV_ {y : MethodName} {bytes : ByteArray} {L L2 mc ms n index : Nat} {ret : Option FieldType} {f lo : Nat} {P : Heap → Prop} {Qc : Array Value → State → Outcome → State → Prop} {own : String} {b : Addr} {As : List Value} (C : Cx p m c cc L s args own E)
    (hM : Met l y (ws_ y bytes L2 ret) (rm_ f lo mc ms) (Pc_ E (.ref b :: As) P) Qc mc ms A1) (hd : hdV y n) (hw : GoodIn lw_all (wsV own index y.cls y (ws_ y bytes L2 ret))) (hR : f + 1 ≤ R.frames ∧ 8 + (L2 + 11) + lo ≤ R.locals)
    (hrc : ∃ cell : Cell, H[b]? = some cell ∧ cell.vm.isStatics = false ∧ s.vm.findClass y.cls = some cell.cls) (hP : P H) (hn : As.length = n) (hl : ls.size = L) (hst : st = As.reverse ++ .ref b :: rest) (hro : (rest.map fun v => v.category).sum ≤ 8) (hdg : decode cc pc = .ok (.invokevirtual index, 3)) (hf : cells + mc ≤ R.cells ∧ slots + ms ≤ R.slots) :
    va_Run p l e R s m args below meth c H locs cells slots mc ms (F0 m pc ls st) rest (Qc (Value.ref b :: As).toArray) A1 := by
  obtain ⟨hx, hb, hml, hown, hts, hE, hmv⟩ := C
  exact va_runV (nL := L) ⟨hx, hb, hml, hown, hts⟩ hM (cwV n hts hw rfl rfl rfl hd hR) ⟨Pc_blind hmv, hrc, fun U hU hW => ⟨rfl, by rw [hU]; exact hP, hmv s U hW hE⟩⟩ rfl hn hl hst (lv_room hro) hdg hf
theorem runS_ {y : MethodName} {bytes : ByteArray} {L L2 mc ms n index : Nat} {ret : Option FieldType} {f lo : Nat} {P : Heap → Prop} {Qc : Array Value → State → Outcome → State → Prop} {own : String} {As : List Value} (C : Cx p m c cc L s args own E)
    (hM : Met l y (ws_ y bytes L2 ret) (rm_ f lo mc ms) (Pc_ E As P) Qc mc ms A1) (hd : hdS y n) (hw : GoodIn lw_all (va_wsS own index y (ws_ y bytes L2 ret))) (hR : f + 1 ≤ R.frames ∧ 8 + (L2 + 11) + lo ≤ R.locals)
    (hP : P H) (hn : As.length = n) (hl : ls.size = L) (hst : st = As.reverse ++ rest) (hro : (rest.map fun v => v.category).sum ≤ 8) (hdg : decode cc pc = .ok (.invokestatic index, 3)) (hf : cells + mc ≤ R.cells ∧ slots + ms ≤ R.slots) :
    va_Run p l e R s m args below meth c H locs cells slots mc ms (F0 m pc ls st) rest (Qc As.toArray) A1 := by
  obtain ⟨hx, hb, hml, hown, hts, hE, hmv⟩ := C
  exact va_runS (nL := L) ⟨hx, hb, hml, hown, hts⟩ hM (va_cwS n hts hw rfl rfl rfl hd hR) ⟨Pc_blind hmv, fun U hU hW => ⟨rfl, by rw [hU]; exact hP, hmv s U hW hE⟩⟩ rfl hn hl hst (lv_room hro) hdg hf
/-- what goes on behind a call -/
theorem goi {Qf : Int32 → Heap → Prop} {a : Array Value} {mc ms : Nat} (hr : va_Run p l e R s m args below meth c H locs cells slots mc ms (F0 m pc ls st) rest (Qi_ Qf A1 a) A1) (hS : va_S A0 H0 H locs) (hA : ∀ q, A1 q → A0 q)
    (kk : ∀ (r : Int32) (H1 : Heap) (locs1 : List Loc), Qf r H1 → va_S A0 H0 H1 locs1 → H.size ≤ H1.size → (∀ q : Nat, q < H.size → ¬ A1 q → H1[q]? = H[q]?) → W p l e R s m args below meth c H1 locs1 (cells + mc) (slots + ms) Q (F0 m (pc + 3) ls (.int r :: rest))) : W p l e R s m args below meth c H locs cells slots Q (F0 m pc ls st) := by
  refine va_calli hr hS (fun q _ h => hA q h) hA (fun r u t H1 locs1 ht hvm hq hB hz hk hS1 => ?_)
  subst hB
  exact kk r H1 locs1 (by rw [← ht]; exact hq) hS1 hz hk
theorem gol {Qf : Int64 → Heap → Prop} {a : Array Value} {mc ms : Nat} (hr : va_Run p l e R s m args below meth c H locs cells slots mc ms (F0 m pc ls st) rest (Ql_ Qf A1 a) A1) (hS : va_S A0 H0 H locs) (hA : ∀ q, A1 q → A0 q)
    (kk : ∀ (r : Int64) (H1 : Heap) (locs1 : List Loc), Qf r H1 → va_S A0 H0 H1 locs1 → H.size ≤ H1.size → (∀ q : Nat, q < H.size → ¬ A1 q → H1[q]? = H[q]?) → W p l e R s m args below meth c H1 locs1 (cells + mc) (slots + ms) Q (F0 m (pc + 3) ls (.long r :: rest))) : W p l e R s m args below meth c H locs cells slots Q (F0 m pc ls st) := by
  refine va_calll hr hS (fun q _ h => hA q h) hA (fun r u t H1 locs1 ht hvm hq hB hz hk hS1 => ?_)
  subst hB
  exact kk r H1 locs1 (by rw [← ht]; exact hq) hS1 hz hk
theorem gov {Qf : Heap → Prop} {a : Array Value} {mc ms : Nat} (hr : va_Run p l e R s m args below meth c H locs cells slots mc ms (F0 m pc ls st) rest (Qv_ Qf A1 a) A1) (hS : va_S A0 H0 H locs) (hA : ∀ q, A1 q → A0 q)
    (kk : ∀ (H1 : Heap) (locs1 : List Loc), Qf H1 → va_S A0 H0 H1 locs1 → H.size ≤ H1.size → (∀ q : Nat, q < H.size → ¬ A1 q → H1[q]? = H[q]?) → W p l e R s m args below meth c H1 locs1 (cells + mc) (slots + ms) Q (F0 m (pc + 3) ls rest)) : W p l e R s m args below meth c H locs cells slots Q (F0 m pc ls st) := by
  refine va_callv hr hS (fun q _ h => hA q h) hA (fun u t H1 locs1 ht hvm hq hB hz hk hS1 => ?_)
  subst hB
  exact kk H1 locs1 (by rw [← ht]; exact hq) hS1 hz hk
theorem goq {Qf : Option Nat → Heap → Prop} {a : Array Value} {mc ms : Nat} (hr : va_Run p l e R s m args below meth c H locs cells slots mc ms (F0 m pc ls st) rest (Qq_ Qf A1 a) A1) (hS : va_S A0 H0 H locs) (hA : ∀ q, A1 q → A0 q)
    (kk : ∀ (r : Option Nat) (H1 : Heap) (locs1 : List Loc), Qf r H1 → va_S A0 H0 H1 locs1 → H.size ≤ H1.size → (∀ q : Nat, q < H.size → ¬ A1 q → H1[q]? = H[q]?) → W p l e R s m args below meth c H1 locs1 (cells + mc) (slots + ms) Q (F0 m (pc + 3) ls (va_rf r :: rest))) : W p l e R s m args below meth c H locs cells slots Q (F0 m pc ls st) := by
  refine va_callq hr hS (fun q _ h => hA q h) hA (fun r u t H1 locs1 ht hvm hq hB hz hk hS1 => ?_)
  subst hB
  exact kk r H1 locs1 (by rw [← ht]; exact hq) hS1 hz hk
/-! rows over HP -/
theorem hp_one {D : DD} {hh : HH} (hP : HP D hh H) {a : Nat} {e : va_E} (h : hh a = some e) : va_P D.1 CL [(a, e)] H := by
  intro k q hk
  have hz : k < 1 := (List.getElem?_eq_some_iff.mp hk).1
  rw [show k = 0 by omega] at hk
  cases hk
  exact hP a e h
theorem hp_K {D : DD} (hE : EM D s) (t : Nat) (ht : t < 11) : va_K D.1 CL [(D.2 t, arT t)] s := ⟨hE.1, fun k q hk => by
  have hz : k < 1 := (List.getElem?_eq_some_iff.mp hk).1
  rw [show k = 0 by omega] at hk
  cases hk
  exact hE.2 t ht⟩
theorem hp_K0 {D : DD} (hE : EM D s) : va_K D.1 CL [] s := ⟨hE.1, fun k q hk => by simp at hk⟩
theorem hp_recv {D : DD} {hh : HH} (hE : EM D s) (hP : HP D hh H) {a ci : Nat} {q : vw_C} {fs : List Value} (hc : CL[ci]? = some q) (h : hh a = some (.inr (ci, fs))) : ∃ cell : Cell, H[a]? = some cell ∧ cell.vm.isStatics = false ∧ s.vm.findClass q.1 = some cell.cls := va_recv (q0 := 0) (hp_K0 hE) (hp_one hP h) hc rfl
theorem hp_get {D : DD} {hh : HH} {a ci N : Nat} {fs : List Value} {own C : String} {T : u_T} {index : Nat} (hx : p.tables.exec = Jvm.exec) (hb : c.code = cc) (hts : ∀ w ∈ lw_all, w.before args s = true) (hown : s.vm.findClass own = some m.cls) (hE : EM D s) (hP : HP D hh H) (he : hh a = some (.inr (ci, fs))) (hc : CL[ci]? = some (C, T, N)) (hin : ∀ w ∈ u_ws C T N, w ∈ lw_all) (k : Nat) (hk : k < N) (hq : Cond.fieldLink own index (T k).1 (T k).2.1 (T k).2.2.1 ∈ lw_all) {v : Value} (hv : fs[k]? = some v) (hdg : decode cc pc = .ok (.getfield index, 3))
    (kk : W p l e R s m args below meth c H locs cells slots Q (F0 m (pc + 3) ls (v :: rest))) : W p l e R s m args below meth c H locs cells slots Q (F0 m pc ls (.ref a :: rest)) :=
  va_get hx hb hts hin hown (hp_K0 hE) (hp_one hP he) 0 rfl hc k hk (hts _ hq) (fun _ h => h) hv hdg kk
theorem hp_putG {D : DD} {hh : HH} {a ci N : Nat} {fs : List Value} {own C : String} {T : u_T} {index : Nat} (hx : p.tables.exec = Jvm.exec) (hb : c.code = cc) (hts : ∀ w ∈ lw_all, w.before args s = true) (hown : s.vm.findClass own = some m.cls) (hE : EM D s) (hP : HP D hh H) (hS : va_S A H0 H locs) (hA : A a) (he : hh a = some (.inr (ci, fs))) (hc : CL[ci]? = some (C, T, N)) (hin : ∀ w ∈ u_ws C T N, w ∈ lw_all) (ty0 : Nat → FieldType) (hty : ∀ k, k < N → parseFieldDescriptor (T k).2.2.1 = some (ty0 k)) (hnm : ∀ a, a < N → ∀ b, b < N → a ≠ b → (T a).2.1 ≠ (T b).2.1) (k : Nat) (hk : k < N) (hq : Cond.fieldLink own index (T k).1 (T k).2.1 (T k).2.2.1 ∈ lw_all) (hfin : (T k).2.2.2 = false) {v : Value} (hn : narrow (ty0 k) v = v) (hfit : fits (ty0 k) v = true) (hl : k < fs.length) (hdg : decode cc pc = .ok (.putfield index, 3))
    (kk : ∀ (H1 : Heap) (locs1 : List Loc), HP D (va_up hh a (some (.inr (ci, fs.set k v)))) H1 → va_S A H0 H1 locs1 → H1.size = H.size → W p l e R s m args below meth c H1 locs1 cells slots Q (F0 m (pc + 3) ls rest)) : W p l e R s m args below meth c H locs cells slots Q (F0 m pc ls (v :: .ref a :: rest)) := by
  have hK := hp_K0 hE
  have hap := va_apart (own := own) hts hin ty0 hty hnm hK hc
  obtain ⟨r, h1, cell, q1, q2, q3, q4⟩ := hP a _ he
  have hr : r = (C, T, N) := Option.some.inj (h1.symm.trans hc)
  subst hr
  obtain ⟨hSl, hfc, kC, hkC, hkind⟩ := hK.1 ci _ hc
  obtain ⟨cf, kf, fi, f, hi, hsl⟩ := hSl k hk
  have hlay := hts _ (hin _ (u_in_lay hk))
  unfold u_lay at hlay
  rw [if_neg (by rw [hfin]; decide)] at hlay
  have hst := (u_facts hfc hkC (u_lays hts hin hk) hi).1
  have h6 := u_store hfc hkC hkind hlay hi (hty k hk) hn hfit
  refine W.putK hx hb (f := f) ⟨hown, hts _ hq, ⟨_, _, _, hi⟩, hst⟩ (by rw [q2]; exact h6) q1 q3 (by rw [hsl]; exact k2_hasslot (q4 k hk)) rfl rfl hdg fun H' e1 e2 e3 => ?_
  rw [hsl] at e1 ⊢
  exact kk H' _ (hP.set ⟨_, hc, t_OB.to (V := updV (vp_V fs) k v) ⟨_, e1, q2, q3, t_set q4 hap hk v⟩ (fun j _ => vp_updV_set hl v j)⟩ e3) (hS.put e2 e3 hA) e2
theorem hp_ild {D : DD} {hh : HH} {a n : Nat} {f : Nat → Int32} (hx : p.tables.exec = Jvm.exec) (hb : c.code = cc) (hE : EM D s) (hP : HP D hh H) (he : hh a = some (.inl (D.2 0, n, .inl f))) {i : Int32} (hin : vp_in i n) (hdg : decode cc pc = .ok (.iaload, 1))
    (kk : W p l e R s m args below meth c H locs cells slots Q (F0 m (pc + 1) ls (.int (f i.toNatClampNeg) :: rest))) : W p l e R s m args below meth c H locs cells slots Q (F0 m pc ls (.int i :: .ref a :: rest)) :=
  va_iald hx hb (hp_K hE 0 (by decide)) (hp_one hP he) 0 0 rfl rfl hin hdg kk
theorem hp_bld {D : DD} {hh : HH} {a n : Nat} {f : Nat → Int32} (hx : p.tables.exec = Jvm.exec) (hb : c.code = cc) (hE : EM D s) (hP : HP D hh H) (he : hh a = some (.inl (D.2 1, n, .inl f))) {i : Int32} (hin : vp_in i n) (hdg : decode cc pc = .ok (.baload, 1))
    (kk : W p l e R s m args below meth c H locs cells slots Q (F0 m (pc + 1) ls (.int (f i.toNatClampNeg) :: rest))) : W p l e R s m args below meth c H locs cells slots Q (F0 m pc ls (.int i :: .ref a :: rest)) :=
  va_bald hx hb (hp_K hE 1 (by decide)) (hp_one hP he) 0 0 rfl rfl hin hdg kk
theorem hp_sld {D : DD} {hh : HH} {a n : Nat} {f : Nat → Int32} (hx : p.tables.exec = Jvm.exec) (hb : c.code = cc) (hE : EM D s) (hP : HP D hh H) (he : hh a = some (.inl (D.2 2, n, .inl f))) {i : Int32} (hin : vp_in i n) (hdg : decode cc pc = .ok (.saload, 1))
    (kk : W p l e R s m args below meth c H locs cells slots Q (F0 m (pc + 1) ls (.int (f i.toNatClampNeg) :: rest))) : W p l e R s m args below meth c H locs cells slots Q (F0 m pc ls (.int i :: .ref a :: rest)) :=
  va_sald hx hb (hp_K hE 2 (by decide)) (hp_one hP he) 0 0 rfl rfl hin hdg kk
theorem hp_lld {D : DD} {hh : HH} {a n : Nat} {f : Nat → Int64} (hx : p.tables.exec = Jvm.exec) (hb : c.code = cc) (hE : EM D s) (hP : HP D hh H) (he : hh a = some (.inl (D.2 3, n, .inr (.inl f)))) {i : Int32} (hin : vp_in i n) (hdg : decode cc pc = .ok (.laload, 1))
    (kk : W p l e R s m args below meth c H locs cells slots Q (F0 m (pc + 1) ls (.long (f i.toNatClampNeg) :: rest))) : W p l e R s m args below meth c H locs cells slots Q (F0 m pc ls (.int i :: .ref a :: rest)) :=
  va_lald hx hb (hp_K hE 3 (by decide)) (hp_one hP he) 0 0 rfl rfl hin hdg kk
theorem hp_ist {D : DD} {hh : HH} {a n : Nat} {f : Nat → Int32} (hx : p.tables.exec = Jvm.exec) (hb : c.code = cc) (hE : EM D s) (hP : HP D hh H) (hS : va_S A H0 H locs) (hA : A a) (he : hh a = some (.inl (D.2 0, n, .inl f))) {i x : Int32} (hin : vp_in i n) (hdg : decode cc pc = .ok (.iastore, 1))
    (kk : ∀ (H1 : Heap) (locs1 : List Loc), HP D (va_up hh a (some (.inl (D.2 0, n, .inl (va_up f i.toNatClampNeg x))))) H1 → va_S A H0 H1 locs1 → H1.size = H.size → W p l e R s m args below meth c H1 locs1 cells slots Q (F0 m (pc + 1) ls rest)) : W p l e R s m args below meth c H locs cells slots Q (F0 m pc ls (.int x :: .int i :: .ref a :: rest)) := by
  refine W.iast hx hb (hP a _ he) ((hE.2 0 (by decide)).1 n (fun j => .int (f j))) (fun q => by cases q) (by show ¬ (i < 0 ∨ (arrV _ _ _).slots.size ≤ _); rw [arrV_size]; exact hin) rfl rfl hdg fun H1 e1 z oq => ?_
  refine kk H1 _ (hP.set ?_ oq) (hS.put z oq hA) z
  show H1[a]? = some (vp_cell _ _)
  rw [e1, vp_cell_i, vp_cell_i, arrV_store]
  congr 2
  funext q
  by_cases hq : q = i.toNatClampNeg
  · subst hq
    simp [updV, va_up]
  · simp [updV, va_up, hq]
theorem hp_bst {D : DD} {hh : HH} {a n : Nat} {f : Nat → Int32} (hx : p.tables.exec = Jvm.exec) (hb : c.code = cc) (hE : EM D s) (hP : HP D hh H) (hS : va_S A H0 H locs) (hA : A a) (he : hh a = some (.inl (D.2 1, n, .inl f))) {i x : Int32} (hin : vp_in i n) (hdg : decode cc pc = .ok (.bastore, 1))
    (kk : ∀ (H1 : Heap) (locs1 : List Loc), HP D (va_up hh a (some (.inl (D.2 1, n, .inl (va_up f i.toNatClampNeg (vp_nar .byte x)))))) H1 → va_S A H0 H1 locs1 → H1.size = H.size → W p l e R s m args below meth c H1 locs1 cells slots Q (F0 m (pc + 1) ls rest)) : W p l e R s m args below meth c H locs cells slots Q (F0 m pc ls (.int x :: .int i :: .ref a :: rest)) := by
  refine W.bast hx hb (hP a _ he) ((hE.2 1 (by decide)).1 n (fun j => .int (f j))) (fun q => by cases q) (by show ¬ (i < 0 ∨ (arrV _ _ _).slots.size ≤ _); rw [arrV_size]; exact hin) rfl rfl hdg fun H1 e1 z oq => ?_
  refine kk H1 _ (hP.set ?_ oq) (hS.put z oq hA) z
  show H1[a]? = some (vp_cell _ _)
  rw [e1, vp_cell_i, vp_cell_i, arrV_store]
  congr 2
  funext q
  by_cases hq : q = i.toNatClampNeg
  · subst hq
    simp [updV, va_up, vp_nar]
    try rfl
  · simp [updV, va_up, hq]
theorem hp_sst {D : DD} {hh : HH} {a n : Nat} {f : Nat → Int32} (hx : p.tables.exec = Jvm.exec) (hb : c.code = cc) (hE : EM D s) (hP : HP D hh H) (hS : va_S A H0 H locs) (hA : A a) (he : hh a = some (.inl (D.2 2, n, .inl f))) {i x : Int32} (hin : vp_in i n) (hdg : decode cc pc = .ok (.sastore, 1))
    (kk : ∀ (H1 : Heap) (locs1 : List Loc), HP D (va_up hh a (some (.inl (D.2 2, n, .inl (va_up f i.toNatClampNeg (vp_nar .short x)))))) H1 → va_S A H0 H1 locs1 → H1.size = H.size → W p l e R s m args below meth c H1 locs1 cells slots Q (F0 m (pc + 1) ls rest)) : W p l e R s m args below meth c H locs cells slots Q (F0 m pc ls (.int x :: .int i :: .ref a :: rest)) := by
  refine W.sast hx hb (hP a _ he) ((hE.2 2 (by decide)).1 n (fun j => .int (f j))) (fun q => by cases q) (by show ¬ (i < 0 ∨ (arrV _ _ _).slots.size ≤ _); rw [arrV_size]; exact hin) rfl rfl hdg fun H1 e1 z oq => ?_
  refine kk H1 _ (hP.set ?_ oq) (hS.put z oq hA) z
  show H1[a]? = some (vp_cell _ _)
  rw [e1, vp_cell_i, vp_cell_i, arrV_store]
  congr 2
  funext q
  by_cases hq : q = i.toNatClampNeg
  · subst hq
    simp [updV, va_up, vp_nar]
    try rfl
  · simp [updV, va_up, hq]
theorem hp_lst {D : DD} {hh : HH} {a n : Nat} {f : Nat → Int64} (hx : p.tables.exec = Jvm.exec) (hb : c.code = cc) (hE : EM D s) (hP : HP D hh H) (hS : va_S A H0 H locs) (hA : A a) (he : hh a = some (.inl (D.2 3, n, .inr (.inl f)))) {i : Int32} {x : Int64} (hin : vp_in i n) (hdg : decode cc pc = .ok (.lastore, 1))
    (kk : ∀ (H1 : Heap) (locs1 : List Loc), HP D (va_up hh a (some (.inl (D.2 3, n, .inr (.inl (va_up f i.toNatClampNeg x)))))) H1 → va_S A H0 H1 locs1 → H1.size = H.size → W p l e R s m args below meth c H1 locs1 cells slots Q (F0 m (pc + 1) ls rest)) : W p l e R s m args below meth c H locs cells slots Q (F0 m pc ls (.long x :: .int i :: .ref a :: rest)) := by
  refine W.last hx hb (hP a _ he) ((hE.2 3 (by decide)).1 n (fun j => .long (f j))) (fun q => by cases q) (by show ¬ (i < 0 ∨ (arrV _ _ _).slots.size ≤ _); rw [arrV_size]; exact hin) rfl rfl hdg fun H1 e1 z oq => ?_
  refine kk H1 _ (hP.set ?_ oq) (hS.put z oq hA) z
  show H1[a]? = some (vp_cell _ _)
  rw [e1, vp_cell_l, vp_cell_l, arrV_store]
  congr 2
  funext q
  by_cases hq : q = i.toNatClampNeg
  · subst hq
    simp [updV, va_up]
  · simp [updV, va_up, hq]
end BR
