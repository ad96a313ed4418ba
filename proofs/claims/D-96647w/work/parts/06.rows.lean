/-! THE MEMORY: cells at addresses as a function; rows of the machine over it -/
set_option maxRecDepth 100000
abbrev vwCl : List vw_C := [(RX1, TX1, 9), (RX2, TX2, 13), (RX3, TX3, 1), (RX4, TX4, 20), (RX5, TX5, 2), (RX6, TX6, 4), (RX7, TX7, 7), (RX8, TX8, 1), (RX9, TX9, 1), (RX10, TX10, 1), (RX11, TX11, 1), (RX12, TX12, 1), (RX13, TX13, 1), (RX14, TX14, 1), (RX15, TX15, 1), (RX16, TX16, 7)]
abbrev Ent_ : Type := (Nat × Nat × (Nat → Int32)) ⊕ ((Nat × Nat × (Nat → Option Nat)) ⊕ ((Nat × List Value) ⊕ ((Nat × (Nat → Int64)) ⊕ ((Nat × Int32) ⊕ Nat))))
abbrev Mem_ : Type := Nat → Option Ent_
/-- first own address; classes and slots; array classes by tag; the types of a class's slots -/
abbrev GT_ : Type := Nat × va_G × (Nat → ClassId) × (Nat → Array FieldType)
abbrev eI_ (t n : Nat) (f : Nat → Int32) : Ent_ := .inl (t, n, f)
abbrev eQ_ (t n : Nat) (f : Nat → Option Nat) : Ent_ := .inr (.inl (t, n, f))
abbrev eO_ (ci : Nat) (fs : List Value) : Ent_ := .inr (.inr (.inl (ci, fs)))
abbrev eL_ (n : Nat) (f : Nat → Int64) : Ent_ := .inr (.inr (.inr (.inl (n, f))))
/-- an exception object: its class, its own number (field 6) -/
abbrev eX_ (ci : Nat) (v : Int32) : Ent_ := .inr (.inr (.inr (.inr (.inl (ci, v)))))
/-- an exception object as it was made -/
abbrev eN_ (ci : Nat) : Ent_ := .inr (.inr (.inr (.inr (.inr ci))))
def cv_ (dA : Nat → ClassId) (e : Ent_) : va_E := match e with
  | .inl x => .inl (dA x.1, x.2.1, .inl x.2.2)
  | .inr (.inl x) => .inl (dA x.1, x.2.1, .inr (.inr (.inr (.inr x.2.2))))
  | .inr (.inr (.inl x)) => .inr x
  | .inr (.inr (.inr (.inl x))) => .inl (dA 6, x.1, .inr (.inl x.2))
  | .inr (.inr (.inr (.inr _))) => .inr (0, [])
def tT_ : Nat → FieldType := fun k => match k with
  | 0 => .int
  | 1 => .byte
  | 2 => .short
  | 3 => .object "SideBySide$Stroke"
  | 4 => .object "SideBySide$Told"
  | 5 => .object "SideBySide$Shelf"
  | _ => .long
abbrev tL_ (dA : Nat → ClassId) : List (ClassId × FieldType) := [(dA 0, .int), (dA 1, .byte), (dA 2, .short), (dA 3, .object "SideBySide$Stroke"), (dA 4, .object "SideBySide$Told"), (dA 5, .object "SideBySide$Shelf"), (dA 6, .long)]
/-- links to a nest mate's private members -/
def kM_ : List (String × Nat × MethodName × String) := [("SideBySide", 359, ⟨"SideBySide$Court", "<init>", "()V"⟩, "SideBySide"), ("SideBySide", 360, ⟨"SideBySide$Shelf", "<init>", "()V"⟩, "SideBySide"), ("SideBySide$Drop", 9, ⟨"SideBySide", "rowOf", "(I)I"⟩, "SideBySide"), ("SideBySide$Between", 9, ⟨"SideBySide", "rowOf", "(I)I"⟩, "SideBySide"), ("SideBySide$Wander", 11, ⟨"SideBySide", "rowOf", "(I)I"⟩, "SideBySide"), ("SideBySide$Wander", 16, ⟨"SideBySide", "columnOf", "(I)I"⟩, "SideBySide"), ("SideBySide$Court", 71, ⟨"SideBySide", "isIn", "(III)Z"⟩, "SideBySide"), ("SideBySide$Court", 95, ⟨"SideBySide", "wayTo", "(II)I"⟩, "SideBySide"), ("SideBySide$Court", 87, ⟨"SideBySide", "has", "(II)Z"⟩, "SideBySide"), ("SideBySide$Court", 102, ⟨"SideBySide", "columnOf", "(I)I"⟩, "SideBySide"), ("SideBySide$Court", 105, ⟨"SideBySide", "rowOf", "(I)I"⟩, "SideBySide"), ("SideBySide$CourtReader", 28, ⟨"SideBySide", "isIn", "(III)Z"⟩, "SideBySide")]
def kA_ : List String := ["SideBySide$Stroke", "SideBySide$Told", "SideBySide$Shelf"]
def kC_ : List (String × String) := [("SideBySide$Stroke", "SideBySide$Stroke"), ("SideBySide$Smash", "SideBySide$Stroke"), ("SideBySide$Drop", "SideBySide$Stroke"), ("SideBySide$Lift", "SideBySide$Stroke"), ("SideBySide$Push", "SideBySide$Stroke"), ("SideBySide$Flick", "SideBySide$Stroke"), ("SideBySide$Between", "SideBySide$Stroke"), ("SideBySide$Wander", "SideBySide$Stroke"), ("java/lang/ClassCastException", "java/lang/ClassCastException"), ("SideBySide$Broken", "SideBySide$Broken"), ("java/lang/NegativeArraySizeException", "java/lang/NegativeArraySizeException"), ("java/lang/ArrayIndexOutOfBoundsException", "java/lang/ArrayIndexOutOfBoundsException"), ("java/lang/NullPointerException", "java/lang/NullPointerException"), ("SideBySide$Tossed", "SideBySide$Tossed"), ("java/lang/IllegalArgumentException", "java/lang/IllegalArgumentException"), ("java/lang/IllegalStateException", "java/lang/IllegalStateException"), ("java/lang/ArrayIndexOutOfBoundsException", "java/lang/IndexOutOfBoundsException"), ("java/lang/RuntimeException", "java/lang/Throwable")]
def kN_ : List (String × String) := [("SideBySide$Broken", "java/lang/ClassCastException"), ("java/lang/NegativeArraySizeException", "java/lang/ClassCastException"), ("java/lang/ArrayIndexOutOfBoundsException", "java/lang/ClassCastException"), ("java/lang/NullPointerException", "java/lang/ClassCastException"), ("java/lang/IllegalArgumentException", "java/lang/ClassCastException"), ("java/lang/IllegalStateException", "java/lang/ClassCastException"), ("SideBySide$Tossed", "java/lang/ClassCastException"), ("java/lang/ClassCastException", "SideBySide$Broken"), ("java/lang/NegativeArraySizeException", "SideBySide$Broken"), ("java/lang/ArrayIndexOutOfBoundsException", "SideBySide$Broken"), ("java/lang/NullPointerException", "SideBySide$Broken"), ("java/lang/IllegalArgumentException", "SideBySide$Broken"), ("java/lang/IllegalStateException", "SideBySide$Broken"), ("SideBySide$Tossed", "SideBySide$Broken"), ("java/lang/ClassCastException", "java/lang/NegativeArraySizeException"), ("SideBySide$Broken", "java/lang/NegativeArraySizeException"), ("java/lang/ArrayIndexOutOfBoundsException", "java/lang/NegativeArraySizeException"), ("java/lang/NullPointerException", "java/lang/NegativeArraySizeException"), ("java/lang/IllegalArgumentException", "java/lang/NegativeArraySizeException"), ("java/lang/IllegalStateException", "java/lang/NegativeArraySizeException"), ("SideBySide$Tossed", "java/lang/NegativeArraySizeException"), ("java/lang/ClassCastException", "java/lang/ArrayIndexOutOfBoundsException"), ("SideBySide$Broken", "java/lang/ArrayIndexOutOfBoundsException"), ("java/lang/NegativeArraySizeException", "java/lang/ArrayIndexOutOfBoundsException"), ("java/lang/NullPointerException", "java/lang/ArrayIndexOutOfBoundsException"), ("java/lang/IllegalArgumentException", "java/lang/ArrayIndexOutOfBoundsException"), ("java/lang/IllegalStateException", "java/lang/ArrayIndexOutOfBoundsException"), ("SideBySide$Tossed", "java/lang/ArrayIndexOutOfBoundsException"), ("java/lang/ClassCastException", "java/lang/NullPointerException"), ("SideBySide$Broken", "java/lang/NullPointerException"), ("java/lang/NegativeArraySizeException", "java/lang/NullPointerException"), ("java/lang/ArrayIndexOutOfBoundsException", "java/lang/NullPointerException"), ("java/lang/IllegalArgumentException", "java/lang/NullPointerException"), ("java/lang/IllegalStateException", "java/lang/NullPointerException"), ("SideBySide$Tossed", "java/lang/NullPointerException"), ("java/lang/ClassCastException", "SideBySide$Tossed"), ("SideBySide$Broken", "SideBySide$Tossed"), ("java/lang/NegativeArraySizeException", "SideBySide$Tossed"), ("java/lang/ArrayIndexOutOfBoundsException", "SideBySide$Tossed"), ("java/lang/NullPointerException", "SideBySide$Tossed"), ("java/lang/IllegalArgumentException", "SideBySide$Tossed"), ("java/lang/IllegalStateException", "SideBySide$Tossed"), ("java/lang/ClassCastException", "java/lang/IllegalArgumentException"), ("SideBySide$Broken", "java/lang/IllegalArgumentException"), ("java/lang/NegativeArraySizeException", "java/lang/IllegalArgumentException"), ("java/lang/ArrayIndexOutOfBoundsException", "java/lang/IllegalArgumentException"), ("java/lang/NullPointerException", "java/lang/IllegalArgumentException"), ("java/lang/IllegalStateException", "java/lang/IllegalArgumentException"), ("SideBySide$Tossed", "java/lang/IllegalArgumentException"), ("java/lang/ClassCastException", "java/lang/IllegalStateException"), ("SideBySide$Broken", "java/lang/IllegalStateException"), ("java/lang/NegativeArraySizeException", "java/lang/IllegalStateException"), ("java/lang/ArrayIndexOutOfBoundsException", "java/lang/IllegalStateException"), ("java/lang/NullPointerException", "java/lang/IllegalStateException"), ("java/lang/IllegalArgumentException", "java/lang/IllegalStateException"), ("SideBySide$Tossed", "java/lang/IllegalStateException"), ("SideBySide$Stroke", "[B"), ("SideBySide$Smash", "[B"), ("SideBySide$Drop", "[B"), ("SideBySide$Lift", "[B"), ("SideBySide$Push", "[B"), ("SideBySide$Flick", "[B"), ("SideBySide$Between", "[B"), ("SideBySide$Wander", "[B"), ("[I", "[B"), ("[S", "[B"), ("[B", "SideBySide$Stroke"), ("[I", "SideBySide$Stroke"), ("[S", "SideBySide$Stroke"), ("SideBySide$Stroke", "[S"), ("SideBySide$Smash", "[S"), ("SideBySide$Drop", "[S"), ("SideBySide$Lift", "[S"), ("SideBySide$Push", "[S"), ("SideBySide$Flick", "[S"), ("SideBySide$Between", "[S"), ("SideBySide$Wander", "[S"), ("[B", "[S"), ("[I", "[S"), ("SideBySide$Stroke", "[I"), ("SideBySide$Smash", "[I"), ("SideBySide$Drop", "[I"), ("SideBySide$Lift", "[I"), ("SideBySide$Push", "[I"), ("SideBySide$Flick", "[I"), ("SideBySide$Between", "[I"), ("SideBySide$Wander", "[I"), ("[B", "[I"), ("[S", "[I")]
def kD_ : List (String × MethodName × MethodName) := [("SideBySide$Drop", ⟨"SideBySide$Stroke", "falls", "(II)I"⟩, ⟨"SideBySide$Falls", "falls", "(II)I"⟩), ("SideBySide$Flick", ⟨"SideBySide$Stroke", "falls", "(II)I"⟩, ⟨"SideBySide$Falls", "falls", "(II)I"⟩), ("SideBySide$Lift", ⟨"SideBySide$Stroke", "falls", "(II)I"⟩, ⟨"SideBySide$Falls", "falls", "(II)I"⟩), ("SideBySide$Push", ⟨"SideBySide$Stroke", "falls", "(II)I"⟩, ⟨"SideBySide$Falls", "falls", "(II)I"⟩), ("SideBySide$Smash", ⟨"SideBySide$Stroke", "falls", "(II)I"⟩, ⟨"SideBySide$Falls", "falls", "(II)I"⟩), ("SideBySide$Stroke", ⟨"SideBySide$Stroke", "falls", "(II)I"⟩, ⟨"SideBySide$Falls", "falls", "(II)I"⟩), ("SideBySide$Between", ⟨"SideBySide$Stroke", "tires", "()I"⟩, ⟨"SideBySide$Tires", "tires", "()I"⟩), ("SideBySide$Stroke", ⟨"SideBySide$Stroke", "tires", "()I"⟩, ⟨"SideBySide$Tires", "tires", "()I"⟩)]
def kW_ : List Cond := [.methodLink "SideBySide$Court" 84 ⟨"SideBySide$Stroke", "falls", "(II)I"⟩, .sameMethod "SideBySide$Stroke" "SideBySide$Falls" "falls" "(II)I", .methodLink "SideBySide$Court" 134 ⟨"SideBySide$Stroke", "tires", "()I"⟩, .sameMethod "SideBySide$Stroke" "SideBySide$Tires" "tires" "()I", .methodLink "SideBySide$Drop" 16 ⟨"SideBySide$Stroke", "tires", "()I"⟩, .methodLink "SideBySide$Lift" 13 ⟨"SideBySide$Stroke", "tires", "()I"⟩, .methodLink "SideBySide" 190 ⟨"SideBySide$Stroke", "tires", "()I"⟩, .methodLink "SideBySide" 297 ⟨"SideBySide$Stroke", "falls", "(II)I"⟩]
def Cs_ (C D : String) (U : State) : Prop := ∃ c t : ClassId, U.vm.findClass C = some c ∧ U.vm.findClass D = some t ∧ U.vm.assignable c t = true
def Ld_ (C : String) (x y : MethodName) (U : State) : Prop := (Cond.landsInDefault C x y).before #[] U = true
theorem al_any {vm vm' : Vm} (h : vm.Alike vm') (f : Class → Bool) (hf : ∀ k : Class, f k.bare = f k) (c : ClassId) : (vm'.classes[c]?).any f = (vm.classes[c]?).any f := by
  cases hk : vm.classes[c]? with
  | none => rw [h.none hk]
  | some k =>
    obtain ⟨k', hk', he⟩ := h.2.2 _ _ hk
    rw [hk']
    show f k' = f k
    rw [← hf k', Class.bare_of he, hf]
theorem al_near {vm vm' : Vm} (h : vm.Alike vm') (c : ClassId) (name desc : String) : nearestHeld vm' c name desc = nearestHeld vm c name desc := by
  have e1 : superinterfaceMethods vm' = superinterfaceMethods vm := by rw [← superinterfaceMethods_bare vm', h.bare_eq, superinterfaceMethods_bare]
  have e2 : maximallySpecific vm' = maximallySpecific vm := by rw [← maximallySpecific_bare vm', h.bare_eq, maximallySpecific_bare]
  have e3 : ∀ k : ClassId, (vm'.classes[k]?).any (·.isInterface) = (vm.classes[k]?).any (·.isInterface) := al_any h _ fun _ => rfl
  have e4 : ∀ k : ClassId, ((vm'.classes[k]?).any fun x => x.methods.any fun m => !m.isAbstract && !m.isStatic) = (vm.classes[k]?).any fun x => x.methods.any fun m => !m.isAbstract && !m.isStatic := al_any h _ fun _ => rfl
  have e5 : ∀ (g : ClassId → Bool) (k : ClassId), (vm'.classes[k]?).any (·.interfaces.any g) = (vm.classes[k]?).any (·.interfaces.any g) := fun g => al_any h _ fun _ => rfl
  simp only [Jvm.nearestHeld, held, h.superclasses, h.declaredIn, h.superinterfaces, h.method?, e1, e2, e3, e4, e5]
theorem Ld_.moved {C : String} {x y : MethodName} {u U : State} (hvm : u.vm.Alike U.vm) (h : Ld_ C x y u) : Ld_ C x y U := by
  have e3 : ∀ k : ClassId, (U.vm.classes[k]?).any (·.isInterface) = (u.vm.classes[k]?).any (·.isInterface) := al_any hvm _ fun _ => rfl
  have hf : U.methodFound? x.cls x.name x.desc = u.methodFound? x.cls x.name x.desc := State.methodFound?_setVm (s := u) hvm x.cls x.name x.desc
  have hn : U.methodNamed? y = u.methodNamed? y := State.methodNamed?_setVm (s := u) hvm y
  unfold Ld_ at h ⊢
  simp only [Cond.before, Cond.holds, Cond.value, hvm.findClass, hf, hn, hvm.selectMethod, hvm.method?, hvm.superclasses, hvm.declaredIn, al_near hvm, e3] at h ⊢
  exact h
theorem Ld_.of {C : String} {x y : MethodName} {A : Array Value} {U : State} (h : (Cond.landsInDefault C x y).before A U = true) : Ld_ C x y U := h
theorem Cs_.moved {C D : String} {u U : State} (hvm : u.vm.Alike U.vm) (h : Cs_ C D u) : Cs_ C D U := by
  obtain ⟨c, t, h1, h2, h3⟩ := h
  exact ⟨c, t, by rw [hvm.findClass]; exact h1, by rw [hvm.findClass]; exact h2, by rw [hvm.assignable]; exact h3⟩
def Pa_ (G : GT_) (a : Nat) (H : Heap) (e : Ent_) : Prop := match e with
  | .inl x => va_at G.2.1 vwCl (a, cv_ G.2.2.1 (.inl x)) H
  | .inr (.inl x) => va_at G.2.1 vwCl (a, cv_ G.2.2.1 (.inr (.inl x))) H
  | .inr (.inr (.inl x)) => va_at G.2.1 vwCl (a, cv_ G.2.2.1 (.inr (.inr (.inl x)))) H
  | .inr (.inr (.inr (.inl x))) => va_at G.2.1 vwCl (a, cv_ G.2.2.1 (.inr (.inr (.inr (.inl x))))) H
  | .inr (.inr (.inr (.inr (.inl x)))) => ∃ fs : List Value, fs.length = 7 ∧ fs[6]? = some (.int x.2) ∧ va_at G.2.1 vwCl (a, .inr (x.1, fs)) H
  | .inr (.inr (.inr (.inr (.inr ci)))) => H[a]? = some { cls := G.2.1.1 ci, slots := (G.2.2.2 ci).map defaultValue, vm := .none }
theorem Pa_.kept {G : GT_} {a : Nat} {H H1 : Heap} {e : Ent_} (h : Pa_ G a H e) (hq : H1[a]? = H[a]?) : Pa_ G a H1 e := by
  rcases e with x | x | x | x | x | x
  · exact va_at.kept (D := G.2.1) (cl := vwCl) (q := (a, cv_ G.2.2.1 (.inl x))) h hq
  · exact va_at.kept (D := G.2.1) (cl := vwCl) (q := (a, cv_ G.2.2.1 (.inr (.inl x)))) h hq
  · exact va_at.kept (D := G.2.1) (cl := vwCl) (q := (a, cv_ G.2.2.1 (.inr (.inr (.inl x))))) h hq
  · exact va_at.kept (D := G.2.1) (cl := vwCl) (q := (a, cv_ G.2.2.1 (.inr (.inr (.inr (.inl x)))))) h hq
  · obtain ⟨fs, h1, h2, h3⟩ := h
    exact ⟨fs, h1, h2, va_at.kept (D := G.2.1) (cl := vwCl) (q := (a, .inr (x.1, fs))) h3 hq⟩
  · show H1[a]? = _
    rw [hq]
    exact h
theorem Pa_.lt {G : GT_} {a : Nat} {H : Heap} {e : Ent_} (h : Pa_ G a H e) : a < H.size := by
  rcases e with x | x | x | x | x | x
  · exact va_at.lt (D := G.2.1) (cl := vwCl) (q := (a, cv_ G.2.2.1 (.inl x))) h
  · exact va_at.lt (D := G.2.1) (cl := vwCl) (q := (a, cv_ G.2.2.1 (.inr (.inl x)))) h
  · exact va_at.lt (D := G.2.1) (cl := vwCl) (q := (a, cv_ G.2.2.1 (.inr (.inr (.inl x))))) h
  · exact va_at.lt (D := G.2.1) (cl := vwCl) (q := (a, cv_ G.2.2.1 (.inr (.inr (.inr (.inl x)))))) h
  · obtain ⟨fs, h1, h2, h3⟩ := h
    exact va_at.lt (D := G.2.1) (cl := vwCl) (q := (a, .inr (x.1, fs))) h3
  · exact (Array.getElem?_eq_some_iff.mp (show H[a]? = some _ from h)).1
def Rp_ (G : GT_) (M : Mem_) (H : Heap) : Prop := ∀ (a : Nat) (e : Ent_), M a = some e → Pa_ G a H e ∧ G.1 ≤ a
/-- what exceptions rest on: the exception classes' slots, Throwable's two statics, the modules' names -/
def Zs_ (C n d : String) (A : Nat → Prop) (U : State) (H : Heap) : Prop := ∃ (cf : ClassId) (kf : Class) (fi : Nat) (f : Field) (a : Nat) (cell : Cell), U.vm.findClass C = some cf ∧ U.fieldFound? C n d = some (cf, kf, fi, f) ∧ f.isStatic = true ∧ kf.init = .initialized ∧ kf.statics = some a ∧ H[a]? = some cell ∧ cell.vm.isStatics = true ∧ cell.cls = cf ∧ kf.staticTypes[f.slot]? = some f.type ∧ (∃ v : Option Nat, cell.slots[f.slot]? = some (va_rf v)) ∧ ¬ A a
theorem Zs_.moved {C n d : String} {A : Nat → Prop} {s U : State} (hvm : s.vm.Alike U.vm) (hq : ∀ a : Nat, a < s.heap.size → ¬ A a → U.heap[a]? = s.heap[a]?) (h : Zs_ C n d A s s.heap) : Zs_ C n d A U U.heap := by
  obtain ⟨cf, kf, fi, f, a, cell, h0, h1, h2, h3, h4, h5, h6, h7, h8, h9, h10⟩ := h
  obtain ⟨k', hi', he⟩ := State.fieldFound?_setVm hvm h1
  exact ⟨cf, k', fi, f, a, cell, by rw [hvm.findClass]; exact h0, hi', h2, by rw [he]; exact h3, by rw [he]; exact h4, by rw [hq a (Array.getElem?_eq_some_iff.mp h5).1 h10]; exact h5, h6, h7, by rw [he]; exact h8, h9, h10⟩
theorem Zs_.zq {C n d : String} {A : Nat → Prop} {U : State} {H : Heap} (h : Zs_ C n d A U H) : va_Zq C n d A U H := by
  obtain ⟨cf, kf, fi, f, a, cell, h0, h1, h2, h3, h4, h5, h6, h7, h8, ⟨v, h9⟩, h10⟩ := h
  cases v with
  | none => exact Or.inl ⟨cf, kf, fi, f, a, cell, h1, h2, h3, h4, h5, h6, h9, h10⟩
  | some t => exact Or.inr ⟨t, cf, kf, fi, f, a, cell, h1, h2, h3, h4, h5, h6, h9, h10⟩
theorem Zs_.isRef {C n d : String} {A : Nat → Prop} {s : State} {args : Array Value} (h : Zs_ C n d A s s.heap) : (Cond.isRef (.static C n d)).before args s = true := by
  obtain ⟨cf, kf, fi, f, a, cell, h0, h1, h2, h3, h4, h5, h6, h7, h8, ⟨v, h9⟩, h10⟩ := h
  cases v <;> simp [Cond.before, Cond.holds, Cond.value, Term.eval, State.fieldNamed?, h1, h2, h4, h5, h6, h9, va_rf]
theorem Zs_.lays {C n d : String} {A : Nat → Prop} {s : State} {args : Array Value} (h : Zs_ C n d A s s.heap) : (Cond.laysStatic C n d).before args s = true := by
  obtain ⟨cf, kf, fi, f, a, cell, h0, h1, h2, h3, h4, h5, h6, h7, h8, ⟨v, h9⟩, h10⟩ := h
  have hlt := (Array.getElem?_eq_some_iff.mp h9).1
  simp [Cond.before, Cond.holds, Cond.value, h0, h1, h2, h4, h5, h6, h7, h8, hlt]
def Ex_ (G : GT_) (U : State) : Prop := (∀ (ci : Nat) (k : Class), ci < 16 → U.vm.classes[G.2.1.1 ci]? = some k → k.instanceTypes = G.2.2.2 ci) ∧ Zs_ Bundle.tN "UNASSIGNED_STACK" Bundle.steD (fun q => G.1 ≤ q) U U.heap ∧ Zs_ Bundle.tN "SUPPRESSED_SENTINEL" Bundle.listD (fun q => G.1 ≤ q) U U.heap ∧ modulesRight_1 U = true
theorem Ex_.moved {G : GT_} {s U : State} (hvm : s.vm.Alike U.vm) (hq : ∀ a : Nat, a < s.heap.size → ¬ G.1 ≤ a → U.heap[a]? = s.heap[a]?) (h : Ex_ G s) : Ex_ G U := by
  obtain ⟨h1, h2, h3, h4⟩ := h
  refine ⟨fun ci k hci hk => ?_, h2.moved hvm hq, h3.moved hvm hq, ?_⟩
  · cases h0 : s.vm.classes[G.2.1.1 ci]? with
    | none => rw [hvm.none h0] at hk; cases hk
    | some k0 =>
      obtain ⟨k', hk', he⟩ := hvm.2.2 _ _ h0
      cases hk.symm.trans hk'
      rw [← h1 ci k0 hci h0, he]
  · have e1 : U.vm.modules = s.vm.modules := by rw [hvm.1]
    unfold modulesRight_1 at h4 ⊢
    rw [e1]
    exact h4
def Kn_ (G : GT_) (U : State) : Prop := va_K G.2.1 vwCl (tL_ G.2.2.1) U ∧ (∀ q ∈ kM_, va_Nw (.methodLinkNest q.1 q.2.1 q.2.2.1 q.2.2.2) U) ∧ (∀ C ∈ kA_, va_AO C U) ∧ (∀ q ∈ kC_, Cs_ q.1 q.2 U) ∧ (∀ q ∈ kN_, va_Nc q.1 q.2 U) ∧ (∀ q ∈ kD_, Ld_ q.1 q.2.1 q.2.2 U) ∧ (∀ w ∈ kW_, va_Nw w U) ∧ Ex_ G U
def St_ (G : GT_) (n : Nat) (M : Mem_) (s : State) (H : Heap) (locs : List Loc) : Prop := Rp_ G M H ∧ H.size = n ∧ G.1 ≤ n ∧ va_S (fun q => G.1 ≤ q) s.heap H locs
theorem kW_good : ∀ w ∈ kW_, (w.onTables && w.keeps) = true := by decide
theorem Kn_.warm {G : GT_} {s U : State} (hW : s.WarmedH U.vm) (hq : ∀ a : Nat, a < s.heap.size → ¬ G.1 ≤ a → U.heap[a]? = s.heap[a]?) (h : Kn_ G s) : Kn_ G U := ⟨va_K.moved hW.alike h.1, fun q hq => va_Nw.warmM hW (h.2.1 q hq), fun C hC => va_AO.moved hW.alike (h.2.2.1 C hC), fun q hq => (h.2.2.2.1 q hq).moved hW.alike, fun q hq => va_Nc.moved hW.alike (h.2.2.2.2.1 q hq), fun q hq => (h.2.2.2.2.2.1 q hq).moved hW.alike, fun w hw => word_at hW (Or.inl (kW_good w hw)) (h.2.2.2.2.2.2.1 w hw), h.2.2.2.2.2.2.2.moved hW.alike hq⟩
theorem Kn_.same {G : GT_} {s U : State} (hW : s.vm = U.vm) (hh : U.heap = s.heap) (h : Kn_ G s) : Kn_ G U := ⟨va_K.moved (by rw [hW]; exact Vm.Alike.refl _) h.1, fun q hq => va_Nw.same rfl hW (h.2.1 q hq), fun C hC => va_AO.moved (by rw [hW]; exact Vm.Alike.refl _) (h.2.2.1 C hC), fun q hq => (h.2.2.2.1 q hq).moved (by rw [hW]; exact Vm.Alike.refl _), fun q hq => va_Nc.moved (by rw [hW]; exact Vm.Alike.refl _) (h.2.2.2.2.1 q hq), fun q hq => (h.2.2.2.2.2.1 q hq).moved (by rw [hW]; exact Vm.Alike.refl _), fun w hw => va_Nw.same (by have := kW_good w hw; simp only [Bool.and_eq_true] at this; exact this.1) hW (h.2.2.2.2.2.2.1 w hw), h.2.2.2.2.2.2.2.moved (by rw [hW]; exact Vm.Alike.refl _) (fun a _ _ => by rw [hh])⟩
/-! what a program does to the memory, as functions -/
def ms_ (M : Mem_) (a : Nat) (e : Ent_) : Mem_ := fun q => if q = a then some e else M q
def b2_ (b : Bool) : Int32 := if b then 1 else 0
def lt_ {α β : Type} (x : α) (k : α → β) : β := k x
def fo_ (M : Mem_) (a ci : Nat) : Option (List Value) := match M a with
  | some (.inr (.inr (.inl (c, fs)))) => if c = ci then some fs else none
  | _ => none
def ck_ (M : Mem_) (a ci : Nat) : Option Unit := (fo_ M a ci).bind fun _ => some ()
def gI_ (M : Mem_) (a ci k : Nat) : Option Int32 := (fo_ M a ci).bind fun fs => match fs[k]? with
  | some (.int v) => some v
  | _ => none
def gR_ (M : Mem_) (a ci k : Nat) : Option Nat := (fo_ M a ci).bind fun fs => match fs[k]? with
  | some (.ref v) => some v
  | _ => none
def gN_ (M : Mem_) (a ci k : Nat) : Option (Option Nat) := (fo_ M a ci).bind fun fs => match fs[k]? with
  | some (.ref v) => some (some v)
  | some .null => some none
  | _ => none
def pF_ (M : Mem_) (a ci k : Nat) (v : Value) : Option Mem_ := (fo_ M a ci).bind fun fs => if k < fs.length then some (ms_ M a (eO_ ci (fs.set k v))) else none
def ai_ (M : Mem_) (a t : Nat) : Option (Nat × (Nat → Int32)) := match M a with
  | some (.inl (t', n, f)) => if t' = t then some (n, f) else none
  | _ => none
def aq_ (M : Mem_) (a t : Nat) : Option (Nat × (Nat → Option Nat)) := match M a with
  | some (.inr (.inl (t', n, f))) => if t' = t then some (n, f) else none
  | _ => none
def aI_ (M : Mem_) (a t : Nat) (i : Int32) : Option Int32 := (ai_ M a t).bind fun x => if i < 0 ∨ x.1 ≤ i.toNatClampNeg then none else some (x.2 i.toNatClampNeg)
def sI_ (M : Mem_) (a t : Nat) (i v : Int32) : Option Mem_ := (ai_ M a t).bind fun x => if i < 0 ∨ x.1 ≤ i.toNatClampNeg then none else some (ms_ M a (eI_ t x.1 (upd x.2 i.toNatClampNeg v)))
def lI_ (M : Mem_) (a t : Nat) : Option Int32 := (ai_ M a t).bind fun x => some (Int32.ofNat x.1)
def aN_ (M : Mem_) (a t : Nat) (i : Int32) : Option (Option Nat) := (aq_ M a t).bind fun x => if i < 0 ∨ x.1 ≤ i.toNatClampNeg then none else some (x.2 i.toNatClampNeg)
def aR_ (M : Mem_) (a t : Nat) (i : Int32) : Option Nat := (aN_ M a t i).bind fun x => x
def dv_ (x y : Int32) : Option Int32 := if y = 0 then none else some (x / y)
def rm_ (x y : Int32) : Option Int32 := if y = 0 then none else some (x - x / y * y)
def dl_ (x y : Int64) : Option Int64 := if y = 0 then none else some (x / y)
def rl_ (x y : Int64) : Option Int64 := if y = 0 then none else some (x - x / y * y)
theorem bs_ {α β : Type} {o : Option α} {k : α → Option β} {r : β} (h : o.bind k = some r) : ∃ v, o = some v ∧ k v = some r := Option.bind_eq_some_iff.mp h
theorem ip_ {c : Prop} [Decidable c] {α : Type} {a b r : α} (hc : c) (h : (if c then a else b) = r) : a = r := by rw [if_pos hc] at h; exact h
theorem in_ {c : Prop} [Decidable c] {α : Type} {a b r : α} (hc : ¬ c) (h : (if c then a else b) = r) : b = r := by rw [if_neg hc] at h; exact h
theorem lu_ {α β : Type} {x y : α} {k : α → β} {r : β} (e : y = x) (h : lt_ x k = r) : k y = r := by subst e; exact h
theorem fo_spec {M : Mem_} {a ci : Nat} {fs : List Value} (h : fo_ M a ci = some fs) : M a = some (eO_ ci fs) := by
  unfold fo_ at h
  split at h
  · rename_i c fs' e
    split at h
    · rename_i hc
      cases h
      rw [e, hc]
    · cases h
  · cases h
theorem ai_spec {M : Mem_} {a t : Nat} {x : Nat × (Nat → Int32)} (h : ai_ M a t = some x) : M a = some (eI_ t x.1 x.2) := by
  unfold ai_ at h
  split at h
  · rename_i c n f e
    split at h
    · rename_i hc
      cases h
      rw [e, hc]
    · cases h
  · cases h
theorem aq_spec {M : Mem_} {a t : Nat} {x : Nat × (Nat → Option Nat)} (h : aq_ M a t = some x) : M a = some (eQ_ t x.1 x.2) := by
  unfold aq_ at h
  split at h
  · rename_i c n f e
    split at h
    · rename_i hc
      cases h
      rw [e, hc]
    · cases h
  · cases h
theorem ck_spec {M : Mem_} {a ci : Nat} {u : Unit} (h : ck_ M a ci = some u) : ∃ fs, M a = some (eO_ ci fs) := by
  obtain ⟨fs, h1, -⟩ := bs_ h
  exact ⟨fs, fo_spec h1⟩
theorem gI_spec {M : Mem_} {a ci k : Nat} {v : Int32} (h : gI_ M a ci k = some v) : ∃ fs, M a = some (eO_ ci fs) ∧ fs[k]? = some (.int v) := by
  obtain ⟨fs, h1, h2⟩ := bs_ h
  refine ⟨fs, fo_spec h1, ?_⟩
  split at h2
  · rename_i w e
    cases h2
    exact e
  · cases h2
theorem gR_spec {M : Mem_} {a ci k : Nat} {v : Nat} (h : gR_ M a ci k = some v) : ∃ fs, M a = some (eO_ ci fs) ∧ fs[k]? = some (.ref v) := by
  obtain ⟨fs, h1, h2⟩ := bs_ h
  refine ⟨fs, fo_spec h1, ?_⟩
  split at h2
  · rename_i w e
    cases h2
    exact e
  · cases h2
theorem gN_spec {M : Mem_} {a ci k : Nat} {v : Option Nat} (h : gN_ M a ci k = some v) : ∃ fs, M a = some (eO_ ci fs) ∧ fs[k]? = some (va_rf v) := by
  obtain ⟨fs, h1, h2⟩ := bs_ h
  refine ⟨fs, fo_spec h1, ?_⟩
  split at h2
  · rename_i w e
    cases h2
    exact e
  · rename_i e
    cases h2
    exact e
  · cases h2
theorem pF_spec {M M' : Mem_} {a ci k : Nat} {v : Value} (h : pF_ M a ci k v = some M') : ∃ fs, M a = some (eO_ ci fs) ∧ k < fs.length ∧ M' = ms_ M a (eO_ ci (fs.set k v)) := by
  obtain ⟨fs, h1, h2⟩ := bs_ h
  refine ⟨fs, fo_spec h1, ?_⟩
  split at h2
  · rename_i w
    cases h2
    exact ⟨w, rfl⟩
  · cases h2
theorem aI_spec {M : Mem_} {a t : Nat} {i v : Int32} (h : aI_ M a t i = some v) : ∃ n f, M a = some (eI_ t n f) ∧ vp_in i n ∧ v = f i.toNatClampNeg := by
  obtain ⟨x, h1, h2⟩ := bs_ h
  refine ⟨x.1, x.2, ai_spec h1, ?_⟩
  split at h2
  · cases h2
  · rename_i w
    cases h2
    exact ⟨w, rfl⟩
theorem sI_spec {M M' : Mem_} {a t : Nat} {i v : Int32} (h : sI_ M a t i v = some M') : ∃ n f, M a = some (eI_ t n f) ∧ vp_in i n ∧ M' = ms_ M a (eI_ t n (upd f i.toNatClampNeg v)) := by
  obtain ⟨x, h1, h2⟩ := bs_ h
  refine ⟨x.1, x.2, ai_spec h1, ?_⟩
  split at h2
  · cases h2
  · rename_i w
    cases h2
    exact ⟨w, rfl⟩
theorem lI_spec {M : Mem_} {a t : Nat} {v : Int32} (h : lI_ M a t = some v) : ∃ n f, M a = some (eI_ t n f) ∧ Int32.ofNat n = v := by
  obtain ⟨x, h1, h2⟩ := bs_ h
  cases h2
  exact ⟨x.1, x.2, ai_spec h1, rfl⟩
theorem aN_spec {M : Mem_} {a t : Nat} {i : Int32} {v : Option Nat} (h : aN_ M a t i = some v) : ∃ n f, M a = some (eQ_ t n f) ∧ vp_in i n ∧ v = f i.toNatClampNeg := by
  obtain ⟨x, h1, h2⟩ := bs_ h
  refine ⟨x.1, x.2, aq_spec h1, ?_⟩
  split at h2
  · cases h2
  · rename_i w
    cases h2
    exact ⟨w, rfl⟩
theorem aR_spec {M : Mem_} {a t : Nat} {i : Int32} {v : Nat} (h : aR_ M a t i = some v) : ∃ n f, M a = some (eQ_ t n f) ∧ vp_in i n ∧ f i.toNatClampNeg = some v := by
  obtain ⟨x, h1, h2⟩ := bs_ h
  obtain ⟨n, f, g1, g2, g3⟩ := aN_spec h1
  subst g3
  exact ⟨n, f, g1, g2, h2⟩
theorem dv_spec {x y v : Int32} (h : dv_ x y = some v) : ¬ y = 0 ∧ v = x / y := by
  unfold dv_ at h
  split at h
  · cases h
  · rename_i w
    cases h
    exact ⟨w, rfl⟩
theorem rm_spec {x y v : Int32} (h : rm_ x y = some v) : ¬ y = 0 ∧ v = x - x / y * y := by
  unfold rm_ at h
  split at h
  · cases h
  · rename_i w
    cases h
    exact ⟨w, rfl⟩
theorem dl_spec {x y v : Int64} (h : dl_ x y = some v) : ¬ y = 0 ∧ v = x / y := by
  unfold dl_ at h
  split at h
  · cases h
  · rename_i w
    cases h
    exact ⟨w, rfl⟩
theorem rl_spec {x y v : Int64} (h : rl_ x y = some v) : ¬ y = 0 ∧ v = x - x / y * y := by
  unfold rl_ at h
  split at h
  · cases h
  · rename_i w
    cases h
    exact ⟨w, rfl⟩
/-! the state between instructions -/
theorem Rp_.one {G : GT_} {M : Mem_} {H : Heap} {a : Nat} {e : Ent_} (h : Rp_ G M H) (he : M a = some e) (hp : Pa_ G a H e = va_at G.2.1 vwCl (a, cv_ G.2.2.1 e) H := by rfl) : va_P G.2.1 vwCl [(a, cv_ G.2.2.1 e)] H := by
  intro k q hk
  have hz : k < 1 := (List.getElem?_eq_some_iff.mp hk).1
  rw [show k = 0 by omega] at hk
  cases hk
  exact hp ▸ (h a e he).1
theorem St_.put {G : GT_} {n : Nat} {M : Mem_} {s : State} {H H1 : Heap} {locs : List Loc} {a k : Nat} {e0 e : Ent_} (h : St_ G n M s H locs) (he : M a = some e0) (hat : Pa_ G a H1 e) (z : H1.size = H.size) (oq : ∀ q : Nat, q ≠ a → H1[q]? = H[q]?) : St_ G n (ms_ M a e) s H1 (locs ++ [⟨a, k⟩]) := by
  obtain ⟨h1, h2, h3, h4⟩ := h
  refine ⟨fun b x hb => ?_, by rw [z]; exact h2, h3, h4.put z oq (h1 a e0 he).2⟩
  unfold ms_ at hb
  split at hb
  · rename_i hba
    cases hb
    subst hba
    exact ⟨hat, (h1 _ e0 he).2⟩
  · rename_i hba
    exact ⟨(h1 b x hb).1.kept (oq b hba), (h1 b x hb).2⟩
theorem St_.push {G : GT_} {n : Nat} {M : Mem_} {s : State} {H H1 : Heap} {locs : List Loc} {e : Ent_} (h : St_ G n M s H locs) (hat : Pa_ G n H1 e) (z : H1.size = H.size + 1) (o1 : ∀ q : Nat, q < H.size → H1[q]? = H[q]?) : St_ G (n + 1) (ms_ M n e) s H1 locs := by
  obtain ⟨h1, h2, h3, h4⟩ := h
  refine ⟨fun b x hb => ?_, by rw [z, h2], by omega, ⟨by have := h4.1; omega, fun q g1 g2 => (o1 q (Nat.lt_of_lt_of_le g1 h4.1)).trans (h4.2.1 q g1 g2), h4.2.2⟩⟩
  unfold ms_ at hb
  split at hb
  · rename_i hba
    cases hb
    subst hba
    exact ⟨hat, h3⟩
  · exact ⟨(h1 b x hb).1.kept (o1 b (h1 b x hb).1.lt), (h1 b x hb).2⟩
