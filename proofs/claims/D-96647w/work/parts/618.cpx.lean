/-! System.arraycopy beyond a row's end: the exception is made over the native's own frame -/
set_option maxRecDepth 100000
theorem cp_mod (w : String) : (("arraycopy: " ++ w) == notModelled) = false := by
  rw [beq_eq_false_iff_ne]
  intro h
  have h2 := congrArg String.toList h
  rw [String.toList_append] at h2
  have h4 : notModelled.toList = '\u0000' :: " a message that is not modelled".toList := by decide
  have h3 : "arraycopy: ".toList = 'a' :: "rraycopy: ".toList := by decide
  rw [h4, h3] at h2
  simp at h2
theorem cp_sz {w : String} (h : w.toList.length ≤ 120) : (stringBytes (stringToUtf16 ("arraycopy: " ++ w))).size + 10 ≤ 1000 := by
  have b1 := stringBytes_size_le (stringToUtf16 ("arraycopy: " ++ w))
  have b2 := utf16_size_le ("arraycopy: " ++ w)
  rw [String.toList_append, List.length_append] at b2
  have a1 : "arraycopy: ".toList.length = 11 := by decide
  omega
theorem int_print {v : Int} (h1 : -9000000000 < v) (h2 : v < 9000000000) : (toString v).toList.length ≤ 11 := by
  show (Int.repr v).toList.length ≤ 11
  cases h : v with
  | ofNat m =>
    rw [h] at h2
    have h2' : (m : Int) < 9000000000 := h2
    have := nat_print (n := m) (by omega)
    show (toString m).toList.length ≤ 11
    omega
  | negSucc m =>
    rw [h] at h1
    have h1' : -9000000000 < -((m : Int) + 1) := by simpa [Int.negSucc_eq] using h1
    have := nat_print (n := m.succ) (by omega)
    show ("-" ++ toString m.succ).toList.length ≤ 11
    rw [String.toList_append, List.length_append]
    have h0 : "-".toList.length = 1 := by decide
    omega
def cpK (t : FieldType) : Prop := (Native.java_lang_System.arraycopy.kindName t).toList.length ≤ 5
def cpB (sp dp n : Int32) (a b : Nat) : Prop := sp < 0 ∨ dp < 0 ∨ n < 0 ∨ sp.toInt + n.toInt > a ∨ dp.toInt + n.toInt > b
theorem cp_kl {t : FieldType} (h : cpK t) {N : Nat} (hN : N ≤ 1000) (w : String) (hw : w = toString (Native.java_lang_System.arraycopy.kindName t) ++ toString "[" ++ toString N ++ toString "]") : w.toList.length ≤ 20 := by
  subst hw
  simp only [String.toList_append, List.length_append]
  have a1 : (toString "[").toList.length = 1 := by decide
  have a2 : (toString "]").toList.length = 1 := by decide
  have a3 := nat_print (n := N) (by omega)
  have a4 : (toString (Native.java_lang_System.arraycopy.kindName t)).toList.length ≤ 5 := h
  omega
section CPO
variable {e : Env} {s : State} {src dst : Addr} {sp dp n : Int32} {cs cd : Cell} {ks kd : Class} {sComp dComp : ClassId} {sType dType : FieldType}
theorem cp_out (hs : s.heap[src]? = some cs) (hd : s.heap[dst]? = some cd) (hsobj : ∀ k, cs.vm ≠ .statics k) (hdobj : ∀ k, cd.vm ≠ .statics k)
    (hks : s.vm.classes[cs.cls]? = some ks) (hkd : s.vm.classes[cd.cls]? = some kd) (hsk : ks.kind = .array sComp sType) (hdk : kd.kind = .array dComp dType)
    (hty : ((refKind sType != refKind dType) || (!refKind sType && sType != dType)) = false) (k1 : cpK sType) (k2 : cpK dType) (z1 : cs.slots.size ≤ 1000) (z2 : cd.slots.size ≤ 1000) (hb : cpB sp dp n cs.slots.size cd.slots.size) :
    ∃ w : String, w.toList.length ≤ 120 ∧ ∀ (Q : Option Value → Pre) (E : CtlPost) (d : Bool) (acts : List Action), (∀ acts', E (.throwNew "java/lang/ArrayIndexOutOfBoundsException" (some ("arraycopy: " ++ w))) acts' s) → wp (Native.java_lang_System.arraycopy.sem #[.ref src, .int sp, .ref dst, .int dp, .int n]) Q E e d acts s := by
  have i1 := Int32.toInt_lt sp
  have i2 := Int32.le_toInt sp
  have i3 := Int32.toInt_lt dp
  have i4 := Int32.le_toInt dp
  have i5 := Int32.toInt_lt n
  have i6 := Int32.le_toInt n
  have L1 := cp_kl k1 z1 _ rfl
  have L2 := cp_kl k2 z2 _ rfl
  have hty' := hty
  unfold refKind at hty'
  by_cases h1 : sp < 0
  · refine ⟨toString "source index " ++ toString sp ++ toString " out of bounds for " ++ toString (toString (Native.java_lang_System.arraycopy.kindName sType) ++ toString "[" ++ toString cs.slots.size ++ toString "]"), ?_, fun Q E d acts hE => ?_⟩
    · simp only [String.toList_append, List.length_append] at L1 ⊢
      have a1 : (toString "source index ").toList.length = 13 := by decide
      have a2 : (toString " out of bounds for ").toList.length = 19 := by decide
      have a3 := int32_print sp
      show _ + _ + _ + (toString (Native.java_lang_System.arraycopy.kindName sType) ++ toString "[" ++ toString cs.slots.size ++ toString "]").toList.length ≤ 120
      simp only [String.toList_append, List.length_append]
      omega
    · rw [Native.java_lang_System.arraycopy.sem_refs]
      unfold Native.java_lang_System.arraycopy.behind
      simp only [wp_bind', W.classOf, W.theClass, hs, hd, hks, hkd, Option.some.injEq, exists_eq_left', hsk, hdk]
      refine ⟨hsobj, hdobj, ?_⟩
      simp only [hty', Bool.false_eq_true, if_false]
      simp only [wp_bind', W.sizeOf, hs, hd, Option.some.injEq, exists_eq_left', h1, if_true, W.mark]
      exact ⟨rfl, by simp [Control.restarts], hE _⟩
  by_cases h2 : dp < 0
  · refine ⟨toString "destination index " ++ toString dp ++ toString " out of bounds for " ++ toString (toString (Native.java_lang_System.arraycopy.kindName dType) ++ toString "[" ++ toString cd.slots.size ++ toString "]"), ?_, fun Q E d acts hE => ?_⟩
    · simp only [String.toList_append, List.length_append] at L2 ⊢
      have a1 : (toString "destination index ").toList.length = 18 := by decide
      have a2 : (toString " out of bounds for ").toList.length = 19 := by decide
      have a3 := int32_print dp
      show _ + _ + _ + (toString (Native.java_lang_System.arraycopy.kindName dType) ++ toString "[" ++ toString cd.slots.size ++ toString "]").toList.length ≤ 120
      simp only [String.toList_append, List.length_append]
      omega
    · rw [Native.java_lang_System.arraycopy.sem_refs]
      unfold Native.java_lang_System.arraycopy.behind
      simp only [wp_bind', W.classOf, W.theClass, hs, hd, hks, hkd, Option.some.injEq, exists_eq_left', hsk, hdk]
      refine ⟨hsobj, hdobj, ?_⟩
      simp only [hty', Bool.false_eq_true, if_false]
      simp only [wp_bind', W.sizeOf, hs, hd, Option.some.injEq, exists_eq_left', h1, h2, if_true, if_false, W.mark]
      exact ⟨rfl, by simp [Control.restarts], hE _⟩
  by_cases h3 : n < 0
  · refine ⟨toString "length " ++ toString n ++ toString " is negative", ?_, fun Q E d acts hE => ?_⟩
    · simp only [String.toList_append, List.length_append] at L1 ⊢
      have a1 : (toString "length ").toList.length = 7 := by decide
      have a2 : (toString " is negative").toList.length = 12 := by decide
      have a3 := int32_print n
      omega
    · rw [Native.java_lang_System.arraycopy.sem_refs]
      unfold Native.java_lang_System.arraycopy.behind
      simp only [wp_bind', W.classOf, W.theClass, hs, hd, hks, hkd, Option.some.injEq, exists_eq_left', hsk, hdk]
      refine ⟨hsobj, hdobj, ?_⟩
      simp only [hty', Bool.false_eq_true, if_false]
      simp only [wp_bind', W.sizeOf, hs, hd, Option.some.injEq, exists_eq_left', h1, h2, h3, if_true, if_false, W.mark]
      exact ⟨rfl, by simp [Control.restarts], hE _⟩
  by_cases h4 : sp.toInt + n.toInt > cs.slots.size
  · refine ⟨toString "last source index " ++ toString (sp.toInt + n.toInt) ++ toString " out of bounds for " ++ toString (toString (Native.java_lang_System.arraycopy.kindName sType) ++ toString "[" ++ toString cs.slots.size ++ toString "]"), ?_, fun Q E d acts hE => ?_⟩
    · simp only [String.toList_append, List.length_append] at L1 ⊢
      have a1 : (toString "last source index ").toList.length = 18 := by decide
      have a2 : (toString " out of bounds for ").toList.length = 19 := by decide
      have a3 := int_print (v := sp.toInt + n.toInt) (by omega) (by omega)
      show _ + _ + _ + (toString (Native.java_lang_System.arraycopy.kindName sType) ++ toString "[" ++ toString cs.slots.size ++ toString "]").toList.length ≤ 120
      simp only [String.toList_append, List.length_append]
      omega
    · rw [Native.java_lang_System.arraycopy.sem_refs]
      unfold Native.java_lang_System.arraycopy.behind
      simp only [wp_bind', W.classOf, W.theClass, hs, hd, hks, hkd, Option.some.injEq, exists_eq_left', hsk, hdk]
      refine ⟨hsobj, hdobj, ?_⟩
      simp only [hty', Bool.false_eq_true, if_false]
      simp only [wp_bind', W.sizeOf, hs, hd, Option.some.injEq, exists_eq_left', h1, h2, h3, h4, if_true, if_false, W.mark]
      exact ⟨rfl, by simp [Control.restarts], hE _⟩
  by_cases h5 : dp.toInt + n.toInt > cd.slots.size
  · refine ⟨toString "last destination index " ++ toString (dp.toInt + n.toInt) ++ toString " out of bounds for " ++ toString (toString (Native.java_lang_System.arraycopy.kindName dType) ++ toString "[" ++ toString cd.slots.size ++ toString "]"), ?_, fun Q E d acts hE => ?_⟩
    · simp only [String.toList_append, List.length_append] at L2 ⊢
      have a1 : (toString "last destination index ").toList.length = 23 := by decide
      have a2 : (toString " out of bounds for ").toList.length = 19 := by decide
      have a3 := int_print (v := dp.toInt + n.toInt) (by omega) (by omega)
      show _ + _ + _ + (toString (Native.java_lang_System.arraycopy.kindName dType) ++ toString "[" ++ toString cd.slots.size ++ toString "]").toList.length ≤ 120
      simp only [String.toList_append, List.length_append]
      omega
    · rw [Native.java_lang_System.arraycopy.sem_refs]
      unfold Native.java_lang_System.arraycopy.behind
      simp only [wp_bind', W.classOf, W.theClass, hs, hd, hks, hkd, Option.some.injEq, exists_eq_left', hsk, hdk]
      refine ⟨hsobj, hdobj, ?_⟩
      simp only [hty', Bool.false_eq_true, if_false]
      simp only [wp_bind', W.sizeOf, hs, hd, Option.some.injEq, exists_eq_left', h1, h2, h3, h4, h5, if_true, if_false, W.mark]
      exact ⟨rfl, by simp [Control.restarts], hE _⟩
  rcases hb with z | z | z | z | z
  · exact absurd z h1
  · exact absurd z h2
  · exact absurd z h3
  · exact absurd z h4
  · exact absurd z h5
end CPO
/-- a native that ends by a throw, in a walk -/
theorem nat_throw {tb : Tables} {e : Env} {below : List Frame} {s target : State} {g : JFrame} {c : Code} (h : At s g.method c below) {m : MethodId} {meth : Method} {k : Class} {row : NativeRow} {args : Array Value} (acts : List Action)
    (hk : s.vm.classes[m.cls]? = some k) (hx : k.methods[m.idx]? = some meth) (hboot : k.loader = none) (hnat : meth.isNative = true) (hc : meth.code = none) (hl : meth.locks = false)
    (hrow : NativeRow.find? tb.natives k.name meth.name meth.desc = some row)
    (hroom : e.platform.stackFull (((s.setTop g).threads[(s.setTop g).cur]?).getD { frames := [] }) (s.setTop g).frames (nativeFrameWords k.name meth.name (operandWords args.toList)) = false)
    {cls text : String}
    (hw : ∀ E : CtlPost, (∀ acts', E (.throwNew cls (some text)) acts' ((s.setTop g).pushFrame (.native { method := m, args := seenByNative meth args, locked := none }))) → wp (row.sem (seenByNative meth args)) (fun _ _ _ _ => False) E e false [] ((s.setTop g).pushFrame (.native { method := m, args := seenByNative meth args, locked := none })))
    (hrest : Steps tb e below (((s.setTop g).pushFrame (.native { method := m, args := seenByNative meth args, locked := none })).pushFrame (.throwNew cls (some text) none)) target) :
    Steps tb e below (doInvoke e (s.setTop g) acts m args).1 target := by
  have hm : (s.setTop g).vm.method? m = some meth := by
    show s.vm.method? m = some meth
    simp [Vm.method?, hk, hx]
  have hroom' : e.platform.stackFull (((s.setTop g).threads[(s.setTop g).cur]?).getD { frames := [] }) (s.setTop g).frames (nativeFrameWords ((((s.setTop g).vm.classes[m.cls]?).map (·.name)).getD "") meth.name (operandWords args.toList)) = false := by
    have : (((s.setTop g).vm.classes[m.cls]?).map (·.name)).getD "" = k.name := by
      show ((s.vm.classes[m.cls]?).map (·.name)).getD "" = k.name
      simp [hk]
    rw [this]; exact hroom
  rw [(Fast.doInvoke_native (s := s.setTop g) (e := e) (acts := acts) (args := args) hm hnat hc hl hroom').1]
  have hfe := frames_entered (g := g) h.top (.native { method := m, args := seenByNative meth args, locked := none })
  obtain ⟨mid, hmid⟩ := h.above
  refine Steps.head ⟨h.running, by simpa using h.runnable, by simpa using h.alone⟩ ⟨.native { method := m, args := seenByNative meth args, locked := none } :: .java g :: mid, by rw [hfe, hmid]; rfl, by simp, by simp⟩ ?_
  rw [stepThread_native (f := { method := m, args := seenByNative meth args, locked := none }) (k := k) (x := meth) (row := row) hfe hk hx hboot hrow rfl]
  generalize hU : (s.setTop g).pushFrame (.native { method := m, args := seenByNative meth args, locked := none }) = U at hw hrest ⊢
  have hw := (wpRun_iff_run (row.sem (seenByNative meth args)) (fun _ _ _ => False) (fun x s₁ _ => x = .throwNew cls (some text) ∧ s₁ = U) e U).mp (hw (fun x _ s₁ => x = .throwNew cls (some text) ∧ s₁ = U) fun _ => ⟨rfl, rfl⟩)
  cases hr : (row.sem (seenByNative meth args)).run e U with
  | ok v s₁ acts₁ => rw [hr] at hw; exact hw.elim
  | ctl x s₁ acts₁ =>
    rw [hr] at hw
    have key : x = .throwNew cls (some text) ∧ s₁ = U := by
      cases x <;> first | exact hw | exact hw.elim
    obtain ⟨e1, e2⟩ := key
    subst e1
    subst e2
    exact hrest
