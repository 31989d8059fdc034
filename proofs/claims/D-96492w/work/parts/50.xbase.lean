/-! THE CLASS's memory as a clean heap: addresses to cells; its rows -/
set_option maxRecDepth 100000
abbrev XE : Type := (Nat × vp_A) ⊕ (Nat × List Value)
abbrev XH : Type := Nat → Option XE
/-- an array's class is told by a number: 0 int, 1 long, 2 byte, 3 short, 4 Shelf[], 5 Runner[], 6 int[][], 7 Hopper[] -/
def toE (dT : Nat → ClassId) (e : XE) : va_E := match e with
  | .inl a => .inl (dT a.1, a.2)
  | .inr o => .inr o
def xP (D : va_G) (dT : Nat → ClassId) (C : XH) (H : Heap) : Prop := ∀ (a : Nat) (e : XE), C a = some e → va_at D aCl (a, toE dT e) H
def xA (C : XH) (sz : Nat) : Nat → Prop := fun q => (∃ e, C q = some e) ∨ sz ≤ q
def xI (D : va_G) (dT : Nat → ClassId) (A : Nat → Prop) (H0 : Heap) (C : XH) (H : Heap) (locs : List Loc) : Prop := xP D dT C H ∧ (∀ (a : Nat) (e : XE), C a = some e → A a) ∧ va_S A H0 H locs
def xset (C : XH) (a : Nat) (e : XE) : XH := va_up C a (some e)
theorem xset_self {C : XH} {a : Nat} {e : XE} : xset C a e a = some e := va_up_self _ _ _
theorem xset_ne {C : XH} {a b : Nat} {e : XE} (h : b ≠ a) : xset C a e b = C b := va_up_ne _ _ h
theorem xP.one {D : va_G} {dT : Nat → ClassId} {C : XH} {H : Heap} {a : Nat} {e : XE} (h : xP D dT C H) (ha : C a = some e) : va_P D aCl [(a, toE dT e)] H := by
  intro k q hk
  cases k with
  | zero => cases hk; exact h a e ha
  | succ k => simp at hk
theorem xI.upd {D : va_G} {dT : Nat → ClassId} {A : Nat → Prop} {H0 H H1 : Heap} {C : XH} {locs locs1 : List Loc} {a : Nat} {e0 e : XE} (hI : xI D dT A H0 C H locs) (ha : C a = some e0) (he : va_at D aCl (a, toE dT e) H1) (oq : ∀ q : Nat, q ≠ a → H1[q]? = H[q]?) (hS : va_S A H0 H1 locs1) : xI D dT A H0 (xset C a e) H1 locs1 := by
  refine ⟨fun b e1 hb => ?_, fun b e1 hb => ?_, hS⟩
  · by_cases h : b = a
    · subst h
      rw [xset_self] at hb
      cases hb
      exact he
    · rw [xset_ne h] at hb
      exact (hI.1 b e1 hb).kept (oq b h)
  · by_cases h : b = a
    · subst h
      exact hI.2.1 b e0 ha
    · rw [xset_ne h] at hb
      exact hI.2.1 b e1 hb
theorem xI.new {D : va_G} {dT : Nat → ClassId} {A : Nat → Prop} {H0 H H1 : Heap} {C : XH} {locs : List Loc} {e : XE} (hI : xI D dT A H0 C H locs) (hA : ∀ q : Nat, H0.size ≤ q → A q) (he : va_at D aCl (H.size, toE dT e) H1) (o1 : ∀ q : Nat, q < H.size → H1[q]? = H[q]?) (z1 : H.size ≤ H1.size) : C H.size = none ∧ xI D dT A H0 (xset C H.size e) H1 locs := by
  have hn : C H.size = none := by
    cases h : C H.size with
    | none => rfl
    | some e1 => exact absurd (hI.1 _ _ h).lt (Nat.lt_irrefl _)
  refine ⟨hn, fun b e1 hb => ?_, fun b e1 hb => ?_, Nat.le_trans hI.2.2.1 z1, fun q h1 h2 => (o1 q (Nat.lt_of_lt_of_le h1 hI.2.2.1)).trans (hI.2.2.2.1 q h1 h2), hI.2.2.2.2⟩
  · by_cases h : b = H.size
    · subst h
      rw [xset_self] at hb
      cases hb
      exact he
    · rw [xset_ne h] at hb
      have h2 := hI.1 b e1 hb
      exact h2.kept (o1 b h2.lt)
  · by_cases h : b = H.size
    · subst h
      exact hA _ hI.2.2.1
    · rw [xset_ne h] at hb
      exact hI.2.1 b e1 hb
/-- what a field holds, of an object of a class that p lets pass -/
def xgv (C : XH) (p : Nat → Bool) (a k : Nat) : Option Value := match C a with
  | some (.inr o) => if p o.1 = true then o.2[k]? else none
  | _ => none
def xis (ci : Nat) : Nat → Bool := fun c => Nat.beq c ci
def xisH : Nat → Bool := fun c => Nat.ble 13 c && Nat.ble c 19
def asI : Value → Option Int32
  | .int v => some v
  | _ => none
def asR : Value → Option Nat
  | .ref q => some q
  | _ => none
def asO : Value → Option (Option Nat)
  | .ref q => some (some q)
  | .null => some none
  | _ => none
def xgi (C : XH) (p : Nat → Bool) (a k : Nat) : Option Int32 := (xgv C p a k).bind asI
def xgr (C : XH) (p : Nat → Bool) (a k : Nat) : Option Nat := (xgv C p a k).bind asR
def xgo (C : XH) (p : Nat → Bool) (a k : Nat) : Option (Option Nat) := (xgv C p a k).bind asO
def xpv (C : XH) (p : Nat → Bool) (a k : Nat) (v : Value) : Option XH := match C a with
  | some (.inr o) => if p o.1 = true ∧ k < o.2.length then some (xset C a (.inr (o.1, o.2.set k v))) else none
  | _ => none
def xcl (C : XH) (a : Nat) : Option Nat := match C a with
  | some (.inr o) => some o.1
  | _ => none
/-- arrays of ints, bytes, shorts (t: which) -/
def xai (C : XH) (t a : Nat) (i : Int32) : Option Int32 := match C a with
  | some (.inl (t', n, .inl f)) => if t' = t ∧ ¬ (i < 0 ∨ n ≤ i.toNatClampNeg) then some (f i.toNatClampNeg) else none
  | _ => none
def xal (C : XH) (a : Nat) (i : Int32) : Option Int64 := match C a with
  | some (.inl (t', n, .inr (.inl f))) => if t' = 1 ∧ ¬ (i < 0 ∨ n ≤ i.toNatClampNeg) then some (f i.toNatClampNeg) else none
  | _ => none
def xar (C : XH) (t a : Nat) (i : Int32) : Option Nat := match C a with
  | some (.inl (t', n, .inr (.inr (.inr (.inr f))))) => if t' = t ∧ ¬ (i < 0 ∨ n ≤ i.toNatClampNeg) then f i.toNatClampNeg else none
  | _ => none
def xan (C : XH) (t a : Nat) : Option Int32 := match C a with
  | some (.inl x) => if x.1 = t then some (Int32.ofNat x.2.1) else none
  | _ => none
def xsi (C : XH) (a : Nat) (i v : Int32) : Option XH := match C a with
  | some (.inl (t', n, .inl f)) => if t' = 0 ∧ ¬ (i < 0 ∨ n ≤ i.toNatClampNeg) then some (xset C a (.inl (0, n, .inl (upd f i.toNatClampNeg v)))) else none
  | _ => none
def xsr (C : XH) (t a : Nat) (i : Int32) (v : Nat) : Option XH := match C a with
  | some (.inl (t', n, .inr (.inr (.inr (.inr f))))) => if t' = t ∧ ¬ (i < 0 ∨ n ≤ i.toNatClampNeg) then some (xset C a (.inl (t, n, .inr (.inr (.inr (.inr (va_up f i.toNatClampNeg (some v)))))))) else none
  | _ => none
/-- null, or some object -/
def xopt (o : Option Nat) (N : Prop) (B : Nat → Prop) : Prop := (o = none → N) ∧ ∀ q, o = some q → B q
/-- a new object's address is none that was there -/
def xnew (C : XH) (e : XE) (K : Nat → XH → Prop) : Prop := ∀ q : Nat, C q = none → K q (xset C q e)
theorem xgv_spec {C : XH} {p : Nat → Bool} {a k : Nat} {v : Value} (h : xgv C p a k = some v) : ∃ (ci : Nat) (fs : List Value), C a = some (.inr (ci, fs)) ∧ p ci = true ∧ fs[k]? = some v := by
  unfold xgv at h
  split at h
  next o ho =>
    by_cases hp : p o.1 = true
    · rw [if_pos hp] at h
      exact ⟨o.1, o.2, ho, hp, h⟩
    · rw [if_neg hp] at h
      cases h
  next => cases h
theorem asI_spec {v : Value} {x : Int32} (h : asI v = some x) : v = .int x := by
  cases v <;> simp [asI] at h
  rw [h]
theorem asR_spec {v : Value} {x : Nat} (h : asR v = some x) : v = .ref x := by
  cases v <;> simp [asR] at h
  rw [h]
theorem asO_spec {v : Value} {x : Option Nat} (h : asO v = some x) : v = va_rf x := by
  cases v <;> simp [asO] at h <;> rw [← h] <;> rfl
theorem xgi_spec {C : XH} {p : Nat → Bool} {a k : Nat} {v : Int32} (h : xgi C p a k = some v) : xgv C p a k = some (.int v) := by
  obtain ⟨x, h1, h2⟩ := Option.bind_eq_some_iff.mp h
  rw [h1, asI_spec h2]
theorem xgr_spec {C : XH} {p : Nat → Bool} {a k : Nat} {v : Nat} (h : xgr C p a k = some v) : xgv C p a k = some (.ref v) := by
  obtain ⟨x, h1, h2⟩ := Option.bind_eq_some_iff.mp h
  rw [h1, asR_spec h2]
theorem xgo_spec {C : XH} {p : Nat → Bool} {a k : Nat} {v : Option Nat} (h : xgo C p a k = some v) : xgv C p a k = some (va_rf v) := by
  obtain ⟨x, h1, h2⟩ := Option.bind_eq_some_iff.mp h
  rw [h1, asO_spec h2]
theorem xpv_spec {C C' : XH} {p : Nat → Bool} {a k : Nat} {v : Value} (h : xpv C p a k v = some C') : ∃ (ci : Nat) (fs : List Value), C a = some (.inr (ci, fs)) ∧ p ci = true ∧ k < fs.length ∧ C' = xset C a (.inr (ci, fs.set k v)) := by
  unfold xpv at h
  split at h
  next o ho =>
    by_cases hp : p o.1 = true ∧ k < o.2.length
    · rw [if_pos hp] at h
      cases h
      exact ⟨o.1, o.2, ho, hp.1, hp.2, rfl⟩
    · rw [if_neg hp] at h
      cases h
  next => cases h
theorem xis_eq {ci c : Nat} (h : xis ci c = true) : c = ci := Nat.eq_of_beq_eq_true h
theorem xai_spec {C : XH} {t a : Nat} {i v : Int32} (h : xai C t a i = some v) : ∃ (n : Nat) (f : Nat → Int32), C a = some (.inl (t, n, .inl f)) ∧ ¬ (i < 0 ∨ n ≤ i.toNatClampNeg) ∧ v = f i.toNatClampNeg := by
  unfold xai at h
  split at h
  next t' n f ho =>
    by_cases hp : t' = t ∧ ¬ (i < 0 ∨ n ≤ i.toNatClampNeg)
    · rw [if_pos hp] at h
      cases h
      rw [hp.1] at ho
      exact ⟨n, f, ho, hp.2, rfl⟩
    · rw [if_neg hp] at h
      cases h
  next => cases h
theorem xal_spec {C : XH} {a : Nat} {i : Int32} {v : Int64} (h : xal C a i = some v) : ∃ (n : Nat) (f : Nat → Int64), C a = some (.inl (1, n, .inr (.inl f))) ∧ ¬ (i < 0 ∨ n ≤ i.toNatClampNeg) ∧ v = f i.toNatClampNeg := by
  unfold xal at h
  split at h
  next t' n f ho =>
    by_cases hp : t' = 1 ∧ ¬ (i < 0 ∨ n ≤ i.toNatClampNeg)
    · rw [if_pos hp] at h
      cases h
      rw [hp.1] at ho
      exact ⟨n, f, ho, hp.2, rfl⟩
    · rw [if_neg hp] at h
      cases h
  next => cases h
theorem xar_spec {C : XH} {t a : Nat} {i : Int32} {v : Nat} (h : xar C t a i = some v) : ∃ (n : Nat) (f : Nat → Option Nat), C a = some (.inl (t, n, .inr (.inr (.inr (.inr f))))) ∧ ¬ (i < 0 ∨ n ≤ i.toNatClampNeg) ∧ f i.toNatClampNeg = some v := by
  unfold xar at h
  split at h
  next t' n f ho =>
    by_cases hp : t' = t ∧ ¬ (i < 0 ∨ n ≤ i.toNatClampNeg)
    · rw [if_pos hp] at h
      rw [hp.1] at ho
      exact ⟨n, f, ho, hp.2, h⟩
    · rw [if_neg hp] at h
      cases h
  next => cases h
theorem xan_spec {C : XH} {t a : Nat} {v : Int32} (h : xan C t a = some v) : ∃ x, C a = some (.inl (t, x)) ∧ v = Int32.ofNat x.1 := by
  unfold xan at h
  split at h
  next x ho =>
    by_cases hp : x.1 = t
    · rw [if_pos hp] at h
      cases h
      rw [← hp]
      exact ⟨x.2, ho, rfl⟩
    · rw [if_neg hp] at h
      cases h
  next => cases h
theorem xsi_spec {C C' : XH} {a : Nat} {i v : Int32} (h : xsi C a i v = some C') : ∃ (n : Nat) (f : Nat → Int32), C a = some (.inl (0, n, .inl f)) ∧ ¬ (i < 0 ∨ n ≤ i.toNatClampNeg) ∧ C' = xset C a (.inl (0, n, .inl (upd f i.toNatClampNeg v))) := by
  unfold xsi at h
  split at h
  next t' n f ho =>
    by_cases hp : t' = 0 ∧ ¬ (i < 0 ∨ n ≤ i.toNatClampNeg)
    · rw [if_pos hp] at h
      cases h
      rw [hp.1] at ho
      exact ⟨n, f, ho, hp.2, rfl⟩
    · rw [if_neg hp] at h
      cases h
  next => cases h
theorem xsr_spec {C C' : XH} {t a v : Nat} {i : Int32} (h : xsr C t a i v = some C') : ∃ (n : Nat) (f : Nat → Option Nat), C a = some (.inl (t, n, .inr (.inr (.inr (.inr f))))) ∧ ¬ (i < 0 ∨ n ≤ i.toNatClampNeg) ∧ C' = xset C a (.inl (t, n, .inr (.inr (.inr (.inr (va_up f i.toNatClampNeg (some v))))))) := by
  unfold xsr at h
  split at h
  next t' n f ho =>
    by_cases hp : t' = t ∧ ¬ (i < 0 ∨ n ≤ i.toNatClampNeg)
    · rw [if_pos hp] at h
      cases h
      rw [hp.1] at ho
      exact ⟨n, f, ho, hp.2, rfl⟩
    · rw [if_neg hp] at h
      cases h
  next => cases h
/-- the words that do not ride in the lists, and what the tables say of classes that no cast leads to -/
def xNwD : List MethodName := [⟨"InASackToTheRope$Row", "put", "(IJ)V"⟩, ⟨"InASackToTheRope$Row", "sort", "()I"⟩, ⟨"InASackToTheRope$Row", "held", "()Ljava/lang/Object;"⟩, ⟨"InASackToTheRope$Row", "get", "(I)J"⟩, ⟨"InASackToTheRope$Row", "length", "()I"⟩, ⟨"java/lang/Throwable", "<init>", "(Ljava/lang/String;)V"⟩, ⟨"java/lang/Exception", "<init>", "(Ljava/lang/String;)V"⟩, ⟨"java/lang/RuntimeException", "<init>", "(Ljava/lang/String;)V"⟩, ⟨"java/lang/IndexOutOfBoundsException", "<init>", "(Ljava/lang/String;)V"⟩]
def xNwC : List (String × String) := [("java/lang/ArrayIndexOutOfBoundsException", "java/lang/ArrayIndexOutOfBoundsException"), ("java/lang/ArrayIndexOutOfBoundsException", "java/lang/IndexOutOfBoundsException"), ("java/lang/NegativeArraySizeException", "java/lang/NegativeArraySizeException"), ("java/lang/ClassCastException", "java/lang/ClassCastException"), (RX21, RX21), (RX7, RX7), (RX9, "InASackToTheRope$Row"), (RX10, "InASackToTheRope$Row"), (RX11, "InASackToTheRope$Row"), (RX12, "InASackToTheRope$Row"), (RX14, RX13), (RX15, RX13), (RX16, RX13), (RX17, RX13), (RX18, RX13), (RX19, RX13), (RX16, RX14), (RX18, RX15), (RX19, RX17)]
def xHop : List String := [RX13, RX14, RX15, RX16, RX17, RX18, RX19]
def xRow : List String := [RX9, RX10, RX11, RX12]
def xNc : List (String × String) := [("java/lang/ArrayIndexOutOfBoundsException", RX7), (RX7, "java/lang/NegativeArraySizeException"), (RX7, "java/lang/ClassCastException")] ++ (xHop.map (fun c => (c, "InASackToTheRope$Row"))) ++ (xRow.map (fun c => (c, RX13))) ++ ([RX14, RX15, RX16, RX17, RX18, RX19].flatMap (fun T => ((xRow ++ xHop).filter (fun c => !(c == T) && !((c, T) == (RX16, RX14)) && !((c, T) == (RX18, RX15)) && !((c, T) == (RX19, RX17)))).map (fun c => (c, T))))
/-- the start's modules: what bounds the text of a failing cast -/
def xMod (vm : Vm) : Prop := (vm.modules.all fun m => m.loader.isSome || m.name == "java.base" || !((["", "java/lang"] : List String).any fun p => m.packages.contains p)) = true
theorem xMod.moved {a b : Vm} (h : a.Alike b) (hm : xMod a) : xMod b := by
  have e : b.modules = a.modules := by rw [h.1]
  unfold xMod at hm ⊢
  rw [e]
  exact hm
def xT (U : State) : Prop := (∀ x ∈ xNwD, va_Nw (.declares x) U) ∧ (∀ q ∈ xNwC, va_Nw (.castable q.1 q.2) U) ∧ (∀ q ∈ xNc, va_Nc q.1 q.2 U) ∧ va_AO RX5 U ∧ va_AO RX2 U ∧ va_AO RX13 U ∧ va_Nw (.arrayOver (.array .int)) U ∧ xMod U.vm
def xLen : List Nat := [5, 4, 4, 2, 3, 5, 2, 4]
def xByt : List (List Int32) := [[99, 104, 105, 108, 100], [115, 97, 99, 107], [101, 97, 114, 115], [97, 121], [105, 110, 100], [97, 104, 101, 97, 100], [117, 112], [114, 111, 112, 101]]
def xTxt : List (Nat × String) := [(78, "child"), (88, "sack"), (97, "ears"), (106, "ay"), (111, "ind"), (120, "ahead"), (124, "up"), (126, "rope")]
/-- Throwable's two statics, the eight texts -/
def xZ (adK adV : Nat → Nat) (A : Nat → Prop) (U : State) (H : Heap) : Prop := vx_Zq Bundle.tN "UNASSIGNED_STACK" Bundle.steD A U H ∧ vx_Zq Bundle.tN "SUPPRESSED_SENTINEL" Bundle.listD A U H ∧ vk_S 8 xLen xByt adK adV A U H ∧ (∀ (i : Nat) (q : Nat × String), xTxt[i]? = some q → vk_R RX20 q.1 q.2 (adK i) U) ∧ va_Z "java/lang/String" "COMPACT_STRINGS" "Z" (.int 1) A U H ∧ va_Zq "jdk/internal/util/Preconditions" "SIOOBE_FORMATTER" "Ljava/util/function/BiFunction;" A U H
def xG (adK adV : Nat → Nat) (A : Nat → Prop) (U : State) (H : Heap) : Prop := xT U ∧ xZ adK adV A U H
theorem x_idx_bare (vm : Vm) (comp : ClassId) : (vm.bare.classes.findIdx? fun (x : Class) => match x.kind with | .array component _ => component == comp | _ => false) = (vm.classes.findIdx? fun (x : Class) => match x.kind with | .array component _ => component == comp | _ => false) := by
  simp only [Vm.bare, Array.findIdx?_map]
  rfl
theorem xAO_moved {u U : State} (hvm : u.vm.Alike U.vm) (h : va_Nw (.arrayOver (.array .int)) u) : va_Nw (.arrayOver (.array .int)) U := by
  unfold va_Nw Cond.before Cond.holds at h ⊢
  simp only [Cond.value, beq_iff_eq, Option.bind_eq_some_iff, Option.map_eq_some_iff] at h ⊢
  obtain ⟨comp, h1, c, h2, k, h3, h4⟩ := h
  obtain ⟨k', hk', he⟩ := hvm.2.2 _ _ h3
  have h2' : (u.vm.classes.findIdx? fun (x : Class) => match x.kind with | .array component _ => component == comp | _ => false) = some c := h2
  have hi : (U.vm.classes.findIdx? fun (x : Class) => match x.kind with | .array component _ => component == comp | _ => false) = some c := by
    rw [← x_idx_bare]
    first | rw [hvm.bare_eq] | rw [← hvm.bare_eq]
    rw [x_idx_bare]
    exact h2'
  refine ⟨comp, by rw [hvm.findClass]; exact h1, c, ?_, k', hk', ?_⟩
  · exact hi
  · rw [hvm.findClass, he]
    exact h4
theorem xT.moved {u U : State} (hW : u.WarmedH U.vm) (h : xT u) : xT U := by
  obtain ⟨h1, h2, h3, h4, h5, h6, h7, h8⟩ := h
  exact ⟨fun x hx => va_Nw.warmD hW (h1 x hx), fun q hq => va_Nw.warmC hW (h2 q hq), fun q hq => va_Nc.moved hW.alike (h3 q hq), va_AO.moved hW.alike h4, va_AO.moved hW.alike h5, va_AO.moved hW.alike h6, xAO_moved hW.alike h7, xMod.moved hW.alike h8⟩
theorem xZ.moved {adK adV : Nat → Nat} {A : Nat → Prop} {u U : State} {H : Heap} (hW : u.WarmedH U.vm) (h : xZ adK adV A u H) : xZ adK adV A U H :=
  ⟨vx_Zq.moved hW.alike h.1, vx_Zq.moved hW.alike h.2.1, vk_S.moved hW.alike h.2.2.1, fun i q hq => vk_R.warm hW (h.2.2.2.1 i q hq), va_Z.moved hW.alike h.2.2.2.2.1, va_Zq.moved hW.alike h.2.2.2.2.2⟩
theorem xZ.kept {adK adV : Nat → Nat} {A : Nat → Prop} {U : State} {H H1 : Heap} (h : xZ adK adV A U H) (hq : ∀ a : Nat, a < H.size → ¬ A a → H1[a]? = H[a]?) : xZ adK adV A U H1 :=
  ⟨h.1.kept hq, h.2.1.kept hq, h.2.2.1.kept hq, h.2.2.2.1, h.2.2.2.2.1.kept hq, h.2.2.2.2.2.kept hq⟩
theorem xZ.narrow {adK adV : Nat → Nat} {A B : Nat → Prop} {U : State} {H : Heap} (h : xZ adK adV A U H) (hAB : ∀ q, B q → A q) : xZ adK adV B U H :=
  ⟨h.1.narrow hAB, h.2.1.narrow hAB, h.2.2.1.narrow hAB, h.2.2.2.1, h.2.2.2.2.1.narrow hAB, h.2.2.2.2.2.narrow hAB⟩
theorem xA_sub {D : va_G} {dT : Nat → ClassId} {A : Nat → Prop} {H0 H : Heap} {C : XH} {locs : List Loc} (hA : ∀ q : Nat, H0.size ≤ q → A q) (hI : xI D dT A H0 C H locs) : ∀ q : Nat, xA C H.size q → A q := by
  intro q hq
  rcases hq with ⟨e, h⟩ | h
  · exact hI.2.1 q e h
  · exact hA q (Nat.le_trans hI.2.2.1 h)
/-- what a callee gets of all this -/
theorem xG.call {adK adV : Nat → Nat} {D : va_G} {dT : Nat → ClassId} {A : Nat → Prop} {s U : State} {H : Heap} {C : XH} {locs : List Loc} (hG : xG adK adV A s s.heap) (hA : ∀ q : Nat, s.heap.size ≤ q → A q) (hI : xI D dT A s.heap C H locs) (hU : U.heap = H) (hW : s.WarmedH U.vm) : xG adK adV (xA C H.size) U U.heap := by
  rw [hU]
  exact ⟨hG.1.moved hW, ((hG.2.kept hI.2.2.2.1).narrow (xA_sub hA hI)).moved hW⟩
