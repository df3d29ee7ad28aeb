/-! WORLD: the classes of both systems, the array classes, the words that do not ride in the lists -/
def jw_cl : List vw_C := [(RX0, TX0, 30), (RX1, TX1, 7), (RX8, TX8, 1), (RX6, TX6, 2), (RX7, TX7, 2), (RX3, TX3, 2), (RX4, TX4, 7), (RJ2, TJ2, 3), (RX2, TX2, 34)]
/-- array classes: int, byte, boolean, int[], boolean[], Object, long -/
def jw_tys (dA : Nat → ClassId) : List (ClassId × FieldType) := [(dA 0, .int), (dA 1, .byte), (dA 2, .boolean), (dA 3, .array .int), (dA 4, .array .boolean), (dA 5, .object "java/lang/Object"), (dA 6, .long)]
def jw_nw : List Cond := [
  .fieldLinkNest "ChordNotHeard" 144 "ChordNotHeard$Chords" "strings" "I" "ChordNotHeard",
  .fieldLinkNest "ChordNotHeard" 151 "ChordNotHeard$Chords" "many" "I" "ChordNotHeard",
  .fieldLinkNest "ChordNotHeard" 118 "ChordNotHeard$Chords" "sorts" "I" "ChordNotHeard",
  .fieldLinkNest "ChordNotHeard" 185 "ChordNotHeard$Chords" "parts" "[[I" "ChordNotHeard",
  .fieldLinkNest "ChordNotHeard" 154 "ChordNotHeard$Chords" "sort" "[I" "ChordNotHeard",
  .fieldLinkNest "ChordNotHeard" 157 "ChordNotHeard$Chords" "least" "[I" "ChordNotHeard",
  .fieldLinkNest "ChordNotHeard" 160 "ChordNotHeard$Chords" "sizes" "[I" "ChordNotHeard",
  .fieldLinkNest "ChordNotHeard" 109 "ChordNotHeard$Stop" "place" "I" "ChordNotHeard",
  .fieldLinkNest "ChordNotHeard$Reader" 22 "ChordNotHeard" "page" "[B" "ChordNotHeard",
  .fieldLinkNest "ChordNotHeard$Reader" 19 "ChordNotHeard" "pageLength" "I" "ChordNotHeard",
  .methodLinkNest "ChordNotHeard" 22 ⟨"ChordNotHeard$Chords", "<init>", "()V"⟩ "ChordNotHeard",
  .methodLinkNest "ChordNotHeard" 101 ⟨"ChordNotHeard$Reader", "<init>", "(LChordNotHeard;)V"⟩ "ChordNotHeard",
  .methodLinkNest "ChordNotHeard" 284 ⟨"ChordNotHeard$Chords", "has", "(II)Z"⟩ "ChordNotHeard",
  .methodLinkNest "ChordNotHeard$Reader" 35 ⟨"ChordNotHeard", "in", "(III)Z"⟩ "ChordNotHeard",
  .methodLinkNest "ChordNotHeard$Exchange" 1 ⟨"ChordNotHeard$Likeness", "<init>", "()V"⟩ "ChordNotHeard",
  .methodLinkNest "ChordNotHeard$Shift" 1 ⟨"ChordNotHeard$Likeness", "<init>", "()V"⟩ "ChordNotHeard",
  .declares ⟨"ChordNotHeard$Likeness", "sounds", "(II)I"⟩,
  .declares ⟨"ChordNotHeard$Likeness", "kind", "()I"⟩,
  .castable "ChordNotHeard$Exchange" "ChordNotHeard$Likeness",
  .castable "ChordNotHeard$Turn" "ChordNotHeard$Likeness",
  .castable "ChordNotHeard$Shift" "ChordNotHeard$Likeness",
  .castable "ChordNotHeard$Exchange" "java/lang/Object",
  .castable "ChordNotHeard$Turn" "java/lang/Object",
  .castable "ChordNotHeard$Shift" "java/lang/Object",
  .castable "ChordNotHeard$Stop" "ChordNotHeard$Stop",
  .castable "ChordNotHeard$Stop" "java/lang/Object"]
def jw_okw (w : Cond) : Prop := w.onTables = true ∧ ∀ s U : State, s.WarmedH U.vm → va_Nw w s → va_Nw w U
theorem jw_okF (a : String) (i : Nat) (b n d h : String) : jw_okw (.fieldLinkNest a i b n d h) := ⟨rfl, fun _ _ hW hZ => va_Nw.warmF hW hZ⟩
theorem jw_okM (a : String) (i : Nat) (x : MethodName) (h : String) : jw_okw (.methodLinkNest a i x h) := ⟨rfl, fun _ _ hW hZ => va_Nw.warmM hW hZ⟩
theorem jw_okD (x : MethodName) : jw_okw (.declares x) := ⟨rfl, fun _ _ hW hZ => va_Nw.warmD hW hZ⟩
theorem jw_okC (a b : String) : jw_okw (.castable a b) := ⟨rfl, fun _ _ hW hZ => va_Nw.warmC hW hZ⟩
theorem jw_AA_alike {t : FieldType} {a a' : Array Value} {U U' : State} (hal : U.vm.Alike U'.vm) (h : (Cond.arrayOver (.array t)).before a U = true) : (Cond.arrayOver (.array t)).before a' U' = true := by
  simp only [Cond.before, Cond.holds, Cond.value] at h ⊢
  rw [hal.findClass]
  cases hf : U.vm.findClass (FieldType.array t).toString with
  | none => rw [hf] at h; simp at h
  | some comp =>
    rw [hf] at h
    simp only [Option.bind_some] at h ⊢
    rw [hal.findIdx_congr _ (fun _ _ _ _ => rfl)]
    generalize hF : (U.vm.classes.findIdx? fun (x : Class) => match x.kind with | .array component _ => component == comp | _ => false) = fi at h ⊢
    cases fi with
    | none => simp at h
    | some c =>
      simp only [Option.bind_some] at h ⊢
      cases hk : U.vm.classes[c]? with
      | none => rw [hk] at h; simp at h
      | some k =>
        obtain ⟨k', hk', ek⟩ := hal.2.2 _ _ hk
        rw [hk] at h
        rw [hk', hal.findClass]
        have ekind : k'.kind = k.kind := by rw [ek]
        simp only [Option.map_some] at h ⊢
        rw [ekind]
        exact h
/-- the array classes that multianewarray and anewarray make -/
def jw_AO (U : State) : Prop := (Cond.arrayOver (.array .int)).before #[] U = true ∧ (Cond.arrayOver (.array .boolean)).before #[] U = true ∧ va_AO "java/lang/Object" U
theorem jw_AO.alike {s U : State} (h : s.vm.Alike U.vm) (hA : jw_AO s) : jw_AO U := ⟨jw_AA_alike h hA.1, jw_AA_alike h hA.2.1, va_AO.moved h hA.2.2⟩
theorem jw_ok : ∀ w ∈ jw_nw, jw_okw w := by
  intro w hw
  unfold jw_nw at hw
  simp only [List.mem_cons, List.not_mem_nil, or_false] at hw
  rcases hw with e | e | e | e | e | e | e | e | e | e | e | e | e | e | e | e | e | e | e | e | e | e | e | e | e | e
  all_goals (subst e; first | exact jw_okF _ _ _ _ _ _ | exact jw_okM _ _ _ _ | exact jw_okD _ | exact jw_okC _ _)
def jw_NW (U : State) : Prop := (∀ w ∈ jw_nw, va_Nw w U) ∧ jw_AO U
theorem jw_NW.same {u U : State} (h : u.vm = U.vm) (hN : jw_NW u) : jw_NW U := ⟨fun w hw => va_Nw.same (jw_ok w hw).1 h (hN.1 w hw), jw_AO.alike (by rw [h]; exact Vm.Alike.refl _) hN.2⟩
theorem jw_NW.warm {s U : State} (hW : s.WarmedH U.vm) (hN : jw_NW s) : jw_NW U := ⟨fun w hw => (jw_ok w hw).2 s U hW (hN.1 w hw), jw_AO.alike hW.alike hN.2⟩
theorem jw_nwF {s : State} {args : Array Value} {w : Cond} (hN : jw_NW s) (hw : w ∈ jw_nw) : w.before args s = true := va_Nw.use (jw_ok w hw).1 (hN.1 w hw)
theorem jw_nwi (i : Nat) {w : Cond} (h : jw_nw[i]? = some w) : w ∈ jw_nw := List.mem_of_getElem? h
