/-! ===== CORE: worlds by names, and a row an instruction over them ===== -/
set_option maxRecDepth 100000
abbrev nA : Type := Nat → Nat
abbrev nV : Type := (Nat × vp_A) ⊕ (Nat × List Value)
abbrev nH : Type := Nat → Option nV
abbrev nG : Type := va_G × (Nat → ClassId)
/-- a cell's kind of array by its number, as the kit has it by its class -/
def nve (d : Nat → ClassId) : nV → va_E
  | .inl x => .inl (d x.1, x.2)
  | .inr o => .inr o
def nup (h : nH) (k : Nat) (e : nV) : nH := fun j => if j = k then some e else h j
def nua (na : nA) (k q : Nat) : nA := fun j => if j = k then q else na j
def nCl : List vw_C := [(RX0, TX0, 30), (RX1, TX1, 2), (RX2, TX2, 1), (RX3, TX3, 61), (RX4, TX4, 4), (RX5, TX5, 4), (RX6, TX6, 4), (RX7, TX7, 4), (RX8, TX8, 4), (RX9, TX9, 8), (RX10, TX10, 4), (RX11, TX11, 6), (RX12, TX12, 3), (RX13, TX13, 7), (RX14, TX14, 4)]
def nT (d : Nat → ClassId) : List (ClassId × FieldType) := [(d 0, .int), (d 1, .byte), (d 2, .short), (d 3, .boolean), (d 4, .char), (d 5, .array .int), (d 6, .object RX4), (d 7, .object RX12), (d 8, .object RX2)]
/-- the abstract heap h, its names at the addresses na, lies in H: apart, and from sz on -/
def nR (G : nG) (sz : Nat) (na : nA) (h : nH) (H : Heap) : Prop := (∀ k e, h k = some e → va_at G.1 nCl (na k, nve G.2 e) H) ∧ (∀ j k, h j ≠ none → h k ≠ none → na j = na k → j = k) ∧ ∀ k, h k ≠ none → sz ≤ na k
def nWF : List (String × Nat × String × String × String × String) := [("MaypoleGreen", 358, "MaypoleGreen$Trace", "bodies", "[I", "MaypoleGreen"), ("MaypoleGreen", 343, "MaypoleGreen$Trace", "count", "I", "MaypoleGreen"), ("MaypoleGreen", 297, "MaypoleGreen$Tape", "row", "Ljava/lang/Object;", "MaypoleGreen"), ("MaypoleGreen", 123, "MaypoleGreen$Round", "places", "I", "MaypoleGreen"), ("MaypoleGreen", 147, "MaypoleGreen$Round", "ribbonAt", "[I", "MaypoleGreen"), ("MaypoleGreen", 150, "MaypoleGreen$Round", "left", "[I", "MaypoleGreen"), ("MaypoleGreen", 181, "MaypoleGreen$Round", "ribbons", "[[I", "MaypoleGreen"), ("MaypoleGreen", 185, "MaypoleGreen$Round", "rowMarks", "[[I", "MaypoleGreen"), ("MaypoleGreen", 176, "MaypoleGreen$Round", "rows", "I", "MaypoleGreen"), ("MaypoleGreen", 222, "MaypoleGreen$Form", "passes", "[I", "MaypoleGreen"), ("MaypoleGreen", 218, "MaypoleGreen$Form", "many", "I", "MaypoleGreen"), ("MaypoleGreen", 219, "MaypoleGreen$Form", "turns", "I", "MaypoleGreen"), ("MaypoleGreen", 211, "MaypoleGreen$Figure", "steps", "[I", "MaypoleGreen"), ("MaypoleGreen", 213, "MaypoleGreen$Figure", "many", "I", "MaypoleGreen"), ("MaypoleGreen", 241, "MaypoleGreen$Figure", "isTooLong", "Z", "MaypoleGreen"), ("MaypoleGreen", 246, "MaypoleGreen$Off", "place", "I", "MaypoleGreen"), ("MaypoleGreen", 275, "MaypoleGreen$Orders", "n", "I", "MaypoleGreen"), ("MaypoleGreen", 286, "MaypoleGreen$Orders", "far", "[I", "MaypoleGreen"), ("MaypoleGreen", 292, "MaypoleGreen$Orders", "at", "[I", "MaypoleGreen")]
def nWM : List (String × Nat × MethodName × String) := [("MaypoleGreen", 46, ⟨"MaypoleGreen$Trace", "<init>", "()V"⟩, "MaypoleGreen"), ("MaypoleGreen", 81, ⟨"MaypoleGreen$Tape", "<init>", "()V"⟩, "MaypoleGreen"), ("MaypoleGreen", 373, ⟨"MaypoleGreen$Tape", "has", "(I)V"⟩, "MaypoleGreen"), ("MaypoleGreen", 383, ⟨"MaypoleGreen$Tape", "size", "()I"⟩, "MaypoleGreen"), ("MaypoleGreen$Reader", 70, ⟨"MaypoleGreen$Figure", "<init>", "()V"⟩, "MaypoleGreen"), ("MaypoleGreen$Reader", 58, ⟨"MaypoleGreen", "in", "(III)Z"⟩, "MaypoleGreen"), ("MaypoleGreen$Figure", 27, ⟨"MaypoleGreen", "undoing", "(I)I"⟩, "MaypoleGreen"), ("MaypoleGreen$Tape", 34, ⟨"MaypoleGreen", "in", "(III)Z"⟩, "MaypoleGreen")]
def nWC : List (String × String) := [("java/lang/ArrayIndexOutOfBoundsException", "java/lang/ArrayIndexOutOfBoundsException"), ("java/lang/ArrayIndexOutOfBoundsException", "java/lang/IndexOutOfBoundsException"), ("java/lang/RuntimeException", "java/lang/Throwable"), ("java/lang/NullPointerException", "java/lang/NullPointerException"), ("java/lang/ClassCastException", "java/lang/ClassCastException"), ("java/lang/NegativeArraySizeException", "java/lang/NegativeArraySizeException"), ("java/lang/ArrayStoreException", "java/lang/ArrayStoreException"), ("MaypoleGreen$Off", "MaypoleGreen$Off"), ("MaypoleGreen$Child", "MaypoleGreen$Dancer"), ("MaypoleGreen$Leader", "MaypoleGreen$Dancer"), ("MaypoleGreen$Fool", "MaypoleGreen$Dancer"), ("MaypoleGreen$Fool", "MaypoleGreen$Leader"), ("MaypoleGreen$Piper", "MaypoleGreen$Dancer")]
def nWD : List MethodName := [⟨"java/lang/Throwable", "<init>", "()V"⟩, ⟨"java/lang/Throwable", "<init>", "(Ljava/lang/String;)V"⟩, ⟨"java/lang/Throwable", "fillInStackTrace", "()Ljava/lang/Throwable;"⟩, ⟨"java/lang/IndexOutOfBoundsException", "<init>", "()V"⟩, ⟨"java/lang/IndexOutOfBoundsException", "<init>", "(Ljava/lang/String;)V"⟩, ⟨"java/lang/Exception", "<init>", "()V"⟩, ⟨"java/lang/Exception", "<init>", "(Ljava/lang/String;)V"⟩, ⟨"java/lang/RuntimeException", "<init>", "()V"⟩, ⟨"java/lang/RuntimeException", "<init>", "(Ljava/lang/String;)V"⟩, ⟨"MaypoleGreen$Dancer", "greets", "(I)I"⟩, ⟨"MaypoleGreen$Dancer", "leads", "(I)I"⟩]
def nWO : List String := ["MaypoleGreen$Dancer", "MaypoleGreen$Figure", "MaypoleGreen$Tape"]
def nWN0 : List (String × String) := [("MaypoleGreen", "MaypoleGreen$Piper"), ("MaypoleGreen$Trace", "MaypoleGreen$Piper"), ("MaypoleGreen$Tape", "MaypoleGreen$Piper"), ("MaypoleGreenModel", "MaypoleGreen$Piper"), ("MaypoleGreen$Dancer", "MaypoleGreen$Piper"), ("MaypoleGreen$Child", "MaypoleGreen$Piper"), ("MaypoleGreen$Leader", "MaypoleGreen$Piper"), ("MaypoleGreen$Fool", "MaypoleGreen$Piper"), ("MaypoleGreen$Round", "MaypoleGreen$Piper"), ("MaypoleGreen$Form", "MaypoleGreen$Piper"), ("MaypoleGreen$Reader", "MaypoleGreen$Piper"), ("MaypoleGreen$Figure", "MaypoleGreen$Piper"), ("MaypoleGreen$Off", "MaypoleGreen$Piper"), ("java/lang/NullPointerException", "MaypoleGreen$Piper"), ("java/lang/ClassCastException", "MaypoleGreen$Piper"), ("MaypoleGreen$Orders", "MaypoleGreen$Piper"), ("java/lang/NegativeArraySizeException", "MaypoleGreen$Piper"), ("java/lang/ArrayStoreException", "MaypoleGreen$Piper"), ("java/lang/ArrayIndexOutOfBoundsException", "MaypoleGreen$Piper"), ("MaypoleGreen", "MaypoleGreen$Off"), ("MaypoleGreen$Trace", "MaypoleGreen$Off"), ("MaypoleGreen$Tape", "MaypoleGreen$Off"), ("MaypoleGreenModel", "MaypoleGreen$Off"), ("MaypoleGreen$Dancer", "MaypoleGreen$Off"), ("MaypoleGreen$Child", "MaypoleGreen$Off"), ("MaypoleGreen$Leader", "MaypoleGreen$Off"), ("MaypoleGreen$Fool", "MaypoleGreen$Off"), ("MaypoleGreen$Piper", "MaypoleGreen$Off"), ("MaypoleGreen$Round", "MaypoleGreen$Off"), ("MaypoleGreen$Form", "MaypoleGreen$Off"), ("MaypoleGreen$Reader", "MaypoleGreen$Off"), ("MaypoleGreen$Figure", "MaypoleGreen$Off"), ("java/lang/NullPointerException", "MaypoleGreen$Off"), ("java/lang/ClassCastException", "MaypoleGreen$Off"), ("MaypoleGreen$Orders", "MaypoleGreen$Off"), ("java/lang/NegativeArraySizeException", "MaypoleGreen$Off"), ("java/lang/ArrayStoreException", "MaypoleGreen$Off"), ("java/lang/ArrayIndexOutOfBoundsException", "MaypoleGreen$Off"), ("MaypoleGreen", "java/lang/NullPointerException"), ("MaypoleGreen$Trace", "java/lang/NullPointerException"), ("MaypoleGreen$Tape", "java/lang/NullPointerException"), ("MaypoleGreenModel", "java/lang/NullPointerException"), ("MaypoleGreen$Dancer", "java/lang/NullPointerException"), ("MaypoleGreen$Child", "java/lang/NullPointerException"), ("MaypoleGreen$Leader", "java/lang/NullPointerException"), ("MaypoleGreen$Fool", "java/lang/NullPointerException"), ("MaypoleGreen$Piper", "java/lang/NullPointerException"), ("MaypoleGreen$Round", "java/lang/NullPointerException"), ("MaypoleGreen$Form", "java/lang/NullPointerException"), ("MaypoleGreen$Reader", "java/lang/NullPointerException"), ("MaypoleGreen$Figure", "java/lang/NullPointerException"), ("MaypoleGreen$Off", "java/lang/NullPointerException"), ("java/lang/ClassCastException", "java/lang/NullPointerException"), ("MaypoleGreen$Orders", "java/lang/NullPointerException"), ("java/lang/NegativeArraySizeException", "java/lang/NullPointerException"), ("java/lang/ArrayStoreException", "java/lang/NullPointerException"), ("java/lang/ArrayIndexOutOfBoundsException", "java/lang/NullPointerException"), ("MaypoleGreen", "java/lang/ClassCastException"), ("MaypoleGreen$Trace", "java/lang/ClassCastException"), ("MaypoleGreen$Tape", "java/lang/ClassCastException")]
def nWN1 : List (String × String) := [("MaypoleGreenModel", "java/lang/ClassCastException"), ("MaypoleGreen$Dancer", "java/lang/ClassCastException"), ("MaypoleGreen$Child", "java/lang/ClassCastException"), ("MaypoleGreen$Leader", "java/lang/ClassCastException"), ("MaypoleGreen$Fool", "java/lang/ClassCastException"), ("MaypoleGreen$Piper", "java/lang/ClassCastException"), ("MaypoleGreen$Round", "java/lang/ClassCastException"), ("MaypoleGreen$Form", "java/lang/ClassCastException"), ("MaypoleGreen$Reader", "java/lang/ClassCastException"), ("MaypoleGreen$Figure", "java/lang/ClassCastException"), ("MaypoleGreen$Off", "java/lang/ClassCastException"), ("java/lang/NullPointerException", "java/lang/ClassCastException"), ("MaypoleGreen$Orders", "java/lang/ClassCastException"), ("java/lang/NegativeArraySizeException", "java/lang/ClassCastException"), ("java/lang/ArrayStoreException", "java/lang/ClassCastException"), ("java/lang/ArrayIndexOutOfBoundsException", "java/lang/ClassCastException"), ("MaypoleGreen", "java/lang/NegativeArraySizeException"), ("MaypoleGreen$Trace", "java/lang/NegativeArraySizeException"), ("MaypoleGreen$Tape", "java/lang/NegativeArraySizeException"), ("MaypoleGreenModel", "java/lang/NegativeArraySizeException"), ("MaypoleGreen$Dancer", "java/lang/NegativeArraySizeException"), ("MaypoleGreen$Child", "java/lang/NegativeArraySizeException"), ("MaypoleGreen$Leader", "java/lang/NegativeArraySizeException"), ("MaypoleGreen$Fool", "java/lang/NegativeArraySizeException"), ("MaypoleGreen$Piper", "java/lang/NegativeArraySizeException"), ("MaypoleGreen$Round", "java/lang/NegativeArraySizeException"), ("MaypoleGreen$Form", "java/lang/NegativeArraySizeException"), ("MaypoleGreen$Reader", "java/lang/NegativeArraySizeException"), ("MaypoleGreen$Figure", "java/lang/NegativeArraySizeException"), ("MaypoleGreen$Off", "java/lang/NegativeArraySizeException"), ("java/lang/NullPointerException", "java/lang/NegativeArraySizeException"), ("java/lang/ClassCastException", "java/lang/NegativeArraySizeException"), ("MaypoleGreen$Orders", "java/lang/NegativeArraySizeException"), ("java/lang/ArrayStoreException", "java/lang/NegativeArraySizeException"), ("java/lang/ArrayIndexOutOfBoundsException", "java/lang/NegativeArraySizeException"), ("MaypoleGreen", "java/lang/ArrayStoreException"), ("MaypoleGreen$Trace", "java/lang/ArrayStoreException"), ("MaypoleGreen$Tape", "java/lang/ArrayStoreException"), ("MaypoleGreenModel", "java/lang/ArrayStoreException"), ("MaypoleGreen$Dancer", "java/lang/ArrayStoreException"), ("MaypoleGreen$Child", "java/lang/ArrayStoreException"), ("MaypoleGreen$Leader", "java/lang/ArrayStoreException"), ("MaypoleGreen$Fool", "java/lang/ArrayStoreException"), ("MaypoleGreen$Piper", "java/lang/ArrayStoreException"), ("MaypoleGreen$Round", "java/lang/ArrayStoreException"), ("MaypoleGreen$Form", "java/lang/ArrayStoreException"), ("MaypoleGreen$Reader", "java/lang/ArrayStoreException"), ("MaypoleGreen$Figure", "java/lang/ArrayStoreException"), ("MaypoleGreen$Off", "java/lang/ArrayStoreException"), ("java/lang/NullPointerException", "java/lang/ArrayStoreException"), ("java/lang/ClassCastException", "java/lang/ArrayStoreException"), ("MaypoleGreen$Orders", "java/lang/ArrayStoreException"), ("java/lang/NegativeArraySizeException", "java/lang/ArrayStoreException"), ("java/lang/ArrayIndexOutOfBoundsException", "java/lang/ArrayStoreException"), ("MaypoleGreen", "java/lang/IndexOutOfBoundsException"), ("MaypoleGreen$Trace", "java/lang/IndexOutOfBoundsException"), ("MaypoleGreen$Tape", "java/lang/IndexOutOfBoundsException"), ("MaypoleGreenModel", "java/lang/IndexOutOfBoundsException"), ("MaypoleGreen$Dancer", "java/lang/IndexOutOfBoundsException"), ("MaypoleGreen$Child", "java/lang/IndexOutOfBoundsException")]
def nWN2 : List (String × String) := [("MaypoleGreen$Leader", "java/lang/IndexOutOfBoundsException"), ("MaypoleGreen$Fool", "java/lang/IndexOutOfBoundsException"), ("MaypoleGreen$Piper", "java/lang/IndexOutOfBoundsException"), ("MaypoleGreen$Round", "java/lang/IndexOutOfBoundsException"), ("MaypoleGreen$Form", "java/lang/IndexOutOfBoundsException"), ("MaypoleGreen$Reader", "java/lang/IndexOutOfBoundsException"), ("MaypoleGreen$Figure", "java/lang/IndexOutOfBoundsException"), ("MaypoleGreen$Off", "java/lang/IndexOutOfBoundsException"), ("java/lang/NullPointerException", "java/lang/IndexOutOfBoundsException"), ("java/lang/ClassCastException", "java/lang/IndexOutOfBoundsException"), ("MaypoleGreen$Orders", "java/lang/IndexOutOfBoundsException"), ("java/lang/NegativeArraySizeException", "java/lang/IndexOutOfBoundsException"), ("java/lang/ArrayStoreException", "java/lang/IndexOutOfBoundsException"), ("MaypoleGreen", "MaypoleGreen$Dancer"), ("MaypoleGreen$Trace", "MaypoleGreen$Dancer"), ("MaypoleGreen$Tape", "MaypoleGreen$Dancer"), ("MaypoleGreenModel", "MaypoleGreen$Dancer"), ("MaypoleGreen$Round", "MaypoleGreen$Dancer"), ("MaypoleGreen$Form", "MaypoleGreen$Dancer"), ("MaypoleGreen$Reader", "MaypoleGreen$Dancer"), ("MaypoleGreen$Figure", "MaypoleGreen$Dancer"), ("MaypoleGreen$Off", "MaypoleGreen$Dancer"), ("java/lang/NullPointerException", "MaypoleGreen$Dancer"), ("java/lang/ClassCastException", "MaypoleGreen$Dancer"), ("MaypoleGreen$Orders", "MaypoleGreen$Dancer"), ("java/lang/NegativeArraySizeException", "MaypoleGreen$Dancer"), ("java/lang/ArrayStoreException", "MaypoleGreen$Dancer"), ("java/lang/ArrayIndexOutOfBoundsException", "MaypoleGreen$Dancer"), ("MaypoleGreen", "MaypoleGreen$Child"), ("MaypoleGreen$Trace", "MaypoleGreen$Child"), ("MaypoleGreen$Tape", "MaypoleGreen$Child"), ("MaypoleGreenModel", "MaypoleGreen$Child"), ("MaypoleGreen$Dancer", "MaypoleGreen$Child"), ("MaypoleGreen$Leader", "MaypoleGreen$Child"), ("MaypoleGreen$Fool", "MaypoleGreen$Child"), ("MaypoleGreen$Piper", "MaypoleGreen$Child"), ("MaypoleGreen$Round", "MaypoleGreen$Child"), ("MaypoleGreen$Form", "MaypoleGreen$Child"), ("MaypoleGreen$Reader", "MaypoleGreen$Child"), ("MaypoleGreen$Figure", "MaypoleGreen$Child"), ("MaypoleGreen$Off", "MaypoleGreen$Child"), ("java/lang/NullPointerException", "MaypoleGreen$Child"), ("java/lang/ClassCastException", "MaypoleGreen$Child"), ("MaypoleGreen$Orders", "MaypoleGreen$Child"), ("java/lang/NegativeArraySizeException", "MaypoleGreen$Child"), ("java/lang/ArrayStoreException", "MaypoleGreen$Child"), ("java/lang/ArrayIndexOutOfBoundsException", "MaypoleGreen$Child"), ("MaypoleGreen", "MaypoleGreen$Leader"), ("MaypoleGreen$Trace", "MaypoleGreen$Leader"), ("MaypoleGreen$Tape", "MaypoleGreen$Leader"), ("MaypoleGreenModel", "MaypoleGreen$Leader"), ("MaypoleGreen$Dancer", "MaypoleGreen$Leader"), ("MaypoleGreen$Child", "MaypoleGreen$Leader"), ("MaypoleGreen$Piper", "MaypoleGreen$Leader"), ("MaypoleGreen$Round", "MaypoleGreen$Leader"), ("MaypoleGreen$Form", "MaypoleGreen$Leader"), ("MaypoleGreen$Reader", "MaypoleGreen$Leader"), ("MaypoleGreen$Figure", "MaypoleGreen$Leader"), ("MaypoleGreen$Off", "MaypoleGreen$Leader"), ("java/lang/NullPointerException", "MaypoleGreen$Leader")]
def nWN3 : List (String × String) := [("java/lang/ClassCastException", "MaypoleGreen$Leader"), ("MaypoleGreen$Orders", "MaypoleGreen$Leader"), ("java/lang/NegativeArraySizeException", "MaypoleGreen$Leader"), ("java/lang/ArrayStoreException", "MaypoleGreen$Leader"), ("java/lang/ArrayIndexOutOfBoundsException", "MaypoleGreen$Leader"), ("MaypoleGreen", "MaypoleGreen$Fool"), ("MaypoleGreen$Trace", "MaypoleGreen$Fool"), ("MaypoleGreen$Tape", "MaypoleGreen$Fool"), ("MaypoleGreenModel", "MaypoleGreen$Fool"), ("MaypoleGreen$Dancer", "MaypoleGreen$Fool"), ("MaypoleGreen$Child", "MaypoleGreen$Fool"), ("MaypoleGreen$Leader", "MaypoleGreen$Fool"), ("MaypoleGreen$Piper", "MaypoleGreen$Fool"), ("MaypoleGreen$Round", "MaypoleGreen$Fool"), ("MaypoleGreen$Form", "MaypoleGreen$Fool"), ("MaypoleGreen$Reader", "MaypoleGreen$Fool"), ("MaypoleGreen$Figure", "MaypoleGreen$Fool"), ("MaypoleGreen$Off", "MaypoleGreen$Fool"), ("java/lang/NullPointerException", "MaypoleGreen$Fool"), ("java/lang/ClassCastException", "MaypoleGreen$Fool"), ("MaypoleGreen$Orders", "MaypoleGreen$Fool"), ("java/lang/NegativeArraySizeException", "MaypoleGreen$Fool"), ("java/lang/ArrayStoreException", "MaypoleGreen$Fool"), ("java/lang/ArrayIndexOutOfBoundsException", "MaypoleGreen$Fool"), ("java/lang/Throwable", "MaypoleGreen$Piper"), ("java/lang/String", "MaypoleGreen$Piper"), ("[LMaypoleGreen$Dancer;", "MaypoleGreen$Piper"), ("[LMaypoleGreen$Figure;", "MaypoleGreen$Piper"), ("[I", "MaypoleGreen$Piper"), ("[B", "MaypoleGreen$Piper"), ("[LMaypoleGreen$Tape;", "MaypoleGreen$Piper"), ("[[I", "MaypoleGreen$Piper"), ("[S", "MaypoleGreen$Piper"), ("[Z", "MaypoleGreen$Piper"), ("[C", "MaypoleGreen$Piper"), ("MaypoleGreen", "[B"), ("MaypoleGreen$Trace", "[B"), ("MaypoleGreen$Tape", "[B"), ("MaypoleGreenModel", "[B"), ("MaypoleGreen$Dancer", "[B"), ("MaypoleGreen$Child", "[B"), ("MaypoleGreen$Leader", "[B"), ("MaypoleGreen$Fool", "[B"), ("MaypoleGreen$Piper", "[B"), ("MaypoleGreen$Round", "[B"), ("MaypoleGreen$Form", "[B"), ("MaypoleGreen$Reader", "[B"), ("MaypoleGreen$Figure", "[B"), ("MaypoleGreen$Off", "[B"), ("java/lang/NullPointerException", "[B"), ("java/lang/ClassCastException", "[B"), ("MaypoleGreen$Orders", "[B"), ("java/lang/NegativeArraySizeException", "[B"), ("java/lang/ArrayStoreException", "[B"), ("java/lang/ArrayIndexOutOfBoundsException", "[B"), ("java/lang/Throwable", "[B"), ("java/lang/String", "[B"), ("[LMaypoleGreen$Dancer;", "[B"), ("[LMaypoleGreen$Figure;", "[B"), ("[I", "[B")]
def nWN4 : List (String × String) := [("[LMaypoleGreen$Tape;", "[B"), ("[[I", "[B"), ("[S", "[B"), ("[Z", "[B"), ("[C", "[B"), ("java/lang/Throwable", "MaypoleGreen$Dancer"), ("java/lang/String", "MaypoleGreen$Dancer"), ("[LMaypoleGreen$Dancer;", "MaypoleGreen$Dancer"), ("[LMaypoleGreen$Figure;", "MaypoleGreen$Dancer"), ("[I", "MaypoleGreen$Dancer"), ("[B", "MaypoleGreen$Dancer"), ("[LMaypoleGreen$Tape;", "MaypoleGreen$Dancer"), ("[[I", "MaypoleGreen$Dancer"), ("[S", "MaypoleGreen$Dancer"), ("[Z", "MaypoleGreen$Dancer"), ("[C", "MaypoleGreen$Dancer"), ("java/lang/Throwable", "MaypoleGreen$Child"), ("java/lang/String", "MaypoleGreen$Child"), ("[LMaypoleGreen$Dancer;", "MaypoleGreen$Child"), ("[LMaypoleGreen$Figure;", "MaypoleGreen$Child"), ("[I", "MaypoleGreen$Child"), ("[B", "MaypoleGreen$Child"), ("[LMaypoleGreen$Tape;", "MaypoleGreen$Child"), ("[[I", "MaypoleGreen$Child"), ("[S", "MaypoleGreen$Child"), ("[Z", "MaypoleGreen$Child"), ("[C", "MaypoleGreen$Child"), ("java/lang/Throwable", "MaypoleGreen$Leader"), ("java/lang/String", "MaypoleGreen$Leader"), ("[LMaypoleGreen$Dancer;", "MaypoleGreen$Leader"), ("[LMaypoleGreen$Figure;", "MaypoleGreen$Leader"), ("[I", "MaypoleGreen$Leader"), ("[B", "MaypoleGreen$Leader"), ("[LMaypoleGreen$Tape;", "MaypoleGreen$Leader"), ("[[I", "MaypoleGreen$Leader"), ("[S", "MaypoleGreen$Leader"), ("[Z", "MaypoleGreen$Leader"), ("[C", "MaypoleGreen$Leader"), ("java/lang/Throwable", "MaypoleGreen$Fool"), ("java/lang/String", "MaypoleGreen$Fool"), ("[LMaypoleGreen$Dancer;", "MaypoleGreen$Fool"), ("[LMaypoleGreen$Figure;", "MaypoleGreen$Fool"), ("[I", "MaypoleGreen$Fool"), ("[B", "MaypoleGreen$Fool"), ("[LMaypoleGreen$Tape;", "MaypoleGreen$Fool"), ("[[I", "MaypoleGreen$Fool"), ("[S", "MaypoleGreen$Fool"), ("[Z", "MaypoleGreen$Fool"), ("[C", "MaypoleGreen$Fool"), ("MaypoleGreen", "[S"), ("MaypoleGreen$Trace", "[S"), ("MaypoleGreen$Tape", "[S"), ("MaypoleGreenModel", "[S"), ("MaypoleGreen$Dancer", "[S"), ("MaypoleGreen$Child", "[S"), ("MaypoleGreen$Leader", "[S"), ("MaypoleGreen$Fool", "[S"), ("MaypoleGreen$Piper", "[S"), ("MaypoleGreen$Round", "[S"), ("MaypoleGreen$Form", "[S")]
def nWN5 : List (String × String) := [("MaypoleGreen$Reader", "[S"), ("MaypoleGreen$Figure", "[S"), ("MaypoleGreen$Off", "[S"), ("java/lang/NullPointerException", "[S"), ("java/lang/ClassCastException", "[S"), ("MaypoleGreen$Orders", "[S"), ("java/lang/NegativeArraySizeException", "[S"), ("java/lang/ArrayStoreException", "[S"), ("java/lang/ArrayIndexOutOfBoundsException", "[S"), ("java/lang/Throwable", "[S"), ("java/lang/String", "[S"), ("[LMaypoleGreen$Dancer;", "[S"), ("[LMaypoleGreen$Figure;", "[S"), ("[I", "[S"), ("[B", "[S"), ("[LMaypoleGreen$Tape;", "[S"), ("[[I", "[S"), ("[Z", "[S"), ("[C", "[S"), ("MaypoleGreen", "[I"), ("MaypoleGreen$Trace", "[I"), ("MaypoleGreen$Tape", "[I"), ("MaypoleGreenModel", "[I"), ("MaypoleGreen$Dancer", "[I"), ("MaypoleGreen$Child", "[I"), ("MaypoleGreen$Leader", "[I"), ("MaypoleGreen$Fool", "[I"), ("MaypoleGreen$Piper", "[I"), ("MaypoleGreen$Round", "[I"), ("MaypoleGreen$Form", "[I"), ("MaypoleGreen$Reader", "[I"), ("MaypoleGreen$Figure", "[I"), ("MaypoleGreen$Off", "[I"), ("java/lang/NullPointerException", "[I"), ("java/lang/ClassCastException", "[I"), ("MaypoleGreen$Orders", "[I"), ("java/lang/NegativeArraySizeException", "[I"), ("java/lang/ArrayStoreException", "[I"), ("java/lang/ArrayIndexOutOfBoundsException", "[I"), ("java/lang/Throwable", "[I"), ("java/lang/String", "[I"), ("[LMaypoleGreen$Dancer;", "[I"), ("[LMaypoleGreen$Figure;", "[I"), ("[B", "[I"), ("[LMaypoleGreen$Tape;", "[I"), ("[[I", "[I"), ("[S", "[I"), ("[Z", "[I"), ("[C", "[I"), ("MaypoleGreen", "[Z"), ("MaypoleGreen$Trace", "[Z"), ("MaypoleGreen$Tape", "[Z"), ("MaypoleGreenModel", "[Z"), ("MaypoleGreen$Dancer", "[Z"), ("MaypoleGreen$Child", "[Z"), ("MaypoleGreen$Leader", "[Z"), ("MaypoleGreen$Fool", "[Z"), ("MaypoleGreen$Piper", "[Z"), ("MaypoleGreen$Round", "[Z"), ("MaypoleGreen$Form", "[Z")]
def nWN6 : List (String × String) := [("MaypoleGreen$Reader", "[Z"), ("MaypoleGreen$Figure", "[Z"), ("MaypoleGreen$Off", "[Z"), ("java/lang/NullPointerException", "[Z"), ("java/lang/ClassCastException", "[Z"), ("MaypoleGreen$Orders", "[Z"), ("java/lang/NegativeArraySizeException", "[Z"), ("java/lang/ArrayStoreException", "[Z"), ("java/lang/ArrayIndexOutOfBoundsException", "[Z"), ("java/lang/Throwable", "[Z"), ("java/lang/String", "[Z"), ("[LMaypoleGreen$Dancer;", "[Z"), ("[LMaypoleGreen$Figure;", "[Z"), ("[I", "[Z"), ("[B", "[Z"), ("[LMaypoleGreen$Tape;", "[Z"), ("[[I", "[Z"), ("[S", "[Z"), ("[C", "[Z"), ("MaypoleGreen", "[C"), ("MaypoleGreen$Trace", "[C"), ("MaypoleGreen$Tape", "[C"), ("MaypoleGreenModel", "[C"), ("MaypoleGreen$Dancer", "[C"), ("MaypoleGreen$Child", "[C"), ("MaypoleGreen$Leader", "[C"), ("MaypoleGreen$Fool", "[C"), ("MaypoleGreen$Piper", "[C"), ("MaypoleGreen$Round", "[C"), ("MaypoleGreen$Form", "[C"), ("MaypoleGreen$Reader", "[C"), ("MaypoleGreen$Figure", "[C"), ("MaypoleGreen$Off", "[C"), ("java/lang/NullPointerException", "[C"), ("java/lang/ClassCastException", "[C"), ("MaypoleGreen$Orders", "[C"), ("java/lang/NegativeArraySizeException", "[C"), ("java/lang/ArrayStoreException", "[C"), ("java/lang/ArrayIndexOutOfBoundsException", "[C"), ("java/lang/Throwable", "[C"), ("java/lang/String", "[C"), ("[LMaypoleGreen$Dancer;", "[C"), ("[LMaypoleGreen$Figure;", "[C"), ("[I", "[C"), ("[B", "[C"), ("[LMaypoleGreen$Tape;", "[C"), ("[[I", "[C"), ("[S", "[C"), ("[Z", "[C"), ("MaypoleGreen", "MaypoleGreen$Figure"), ("MaypoleGreen$Trace", "MaypoleGreen$Figure"), ("MaypoleGreen$Tape", "MaypoleGreen$Figure"), ("MaypoleGreenModel", "MaypoleGreen$Figure"), ("MaypoleGreen$Dancer", "MaypoleGreen$Figure"), ("MaypoleGreen$Child", "MaypoleGreen$Figure"), ("MaypoleGreen$Leader", "MaypoleGreen$Figure"), ("MaypoleGreen$Fool", "MaypoleGreen$Figure"), ("MaypoleGreen$Piper", "MaypoleGreen$Figure"), ("MaypoleGreen$Round", "MaypoleGreen$Figure"), ("MaypoleGreen$Form", "MaypoleGreen$Figure")]
def nWN7 : List (String × String) := [("MaypoleGreen$Reader", "MaypoleGreen$Figure"), ("MaypoleGreen$Off", "MaypoleGreen$Figure"), ("java/lang/NullPointerException", "MaypoleGreen$Figure"), ("java/lang/ClassCastException", "MaypoleGreen$Figure"), ("MaypoleGreen$Orders", "MaypoleGreen$Figure"), ("java/lang/NegativeArraySizeException", "MaypoleGreen$Figure"), ("java/lang/ArrayStoreException", "MaypoleGreen$Figure"), ("java/lang/ArrayIndexOutOfBoundsException", "MaypoleGreen$Figure"), ("java/lang/Throwable", "MaypoleGreen$Figure"), ("java/lang/String", "MaypoleGreen$Figure"), ("MaypoleGreen", "MaypoleGreen$Tape"), ("MaypoleGreen$Trace", "MaypoleGreen$Tape"), ("MaypoleGreenModel", "MaypoleGreen$Tape"), ("MaypoleGreen$Dancer", "MaypoleGreen$Tape"), ("MaypoleGreen$Child", "MaypoleGreen$Tape"), ("MaypoleGreen$Leader", "MaypoleGreen$Tape"), ("MaypoleGreen$Fool", "MaypoleGreen$Tape"), ("MaypoleGreen$Piper", "MaypoleGreen$Tape"), ("MaypoleGreen$Round", "MaypoleGreen$Tape"), ("MaypoleGreen$Form", "MaypoleGreen$Tape"), ("MaypoleGreen$Reader", "MaypoleGreen$Tape"), ("MaypoleGreen$Figure", "MaypoleGreen$Tape"), ("MaypoleGreen$Off", "MaypoleGreen$Tape"), ("java/lang/NullPointerException", "MaypoleGreen$Tape"), ("java/lang/ClassCastException", "MaypoleGreen$Tape"), ("MaypoleGreen$Orders", "MaypoleGreen$Tape"), ("java/lang/NegativeArraySizeException", "MaypoleGreen$Tape"), ("java/lang/ArrayStoreException", "MaypoleGreen$Tape"), ("java/lang/ArrayIndexOutOfBoundsException", "MaypoleGreen$Tape"), ("java/lang/Throwable", "MaypoleGreen$Tape"), ("java/lang/String", "MaypoleGreen$Tape"), ("[LMaypoleGreen$Dancer;", "MaypoleGreen$Figure"), ("[LMaypoleGreen$Figure;", "MaypoleGreen$Figure"), ("[I", "MaypoleGreen$Figure"), ("[B", "MaypoleGreen$Figure"), ("[LMaypoleGreen$Tape;", "MaypoleGreen$Figure"), ("[[I", "MaypoleGreen$Figure"), ("[S", "MaypoleGreen$Figure"), ("[Z", "MaypoleGreen$Figure"), ("[C", "MaypoleGreen$Figure"), ("[LMaypoleGreen$Dancer;", "MaypoleGreen$Tape"), ("[LMaypoleGreen$Figure;", "MaypoleGreen$Tape"), ("[I", "MaypoleGreen$Tape"), ("[B", "MaypoleGreen$Tape"), ("[LMaypoleGreen$Tape;", "MaypoleGreen$Tape"), ("[[I", "MaypoleGreen$Tape"), ("[S", "MaypoleGreen$Tape"), ("[Z", "MaypoleGreen$Tape"), ("[C", "MaypoleGreen$Tape")]
def nWN : List (String × String) := nWN0 ++ nWN1 ++ nWN2 ++ nWN3 ++ nWN4 ++ nWN5 ++ nWN6 ++ nWN7
/-- the word of arrays of int arrays -/
def nAA (U : State) : Prop := (Cond.arrayOver (.array .int)).before #[] U = true
theorem nAA.use {A : Array Value} {U : State} (h : nAA U) : (Cond.arrayOver (.array .int)).before A U = true := h
theorem nidx (vm : Vm) (P : _ → Bool) : (vm.bare.classes.findIdx? fun (x : Class) => P x.kind) = (vm.classes.findIdx? fun (x : Class) => P x.kind) := by
  simp only [Vm.bare, Array.findIdx?_map]
  rfl
theorem nAA.moved {u U : State} (hvm : u.vm.Alike U.vm) (h : nAA u) : nAA U := by
  unfold nAA Cond.before at h
  simp only [Cond.holds, Cond.value, beq_iff_eq] at h
  cases hc : u.vm.findClass (FieldType.array .int).toString with
  | none => simp [hc] at h
  | some comp =>
    simp only [hc, Option.bind_some, Option.bind_eq_some_iff, Option.map_eq_some_iff] at h
    obtain ⟨c, h2, k, h3, h4⟩ := h
    obtain ⟨k', hk', he⟩ := hvm.2.2 _ _ h3
    have hi : (U.vm.classes.findIdx? fun (x : Class) => (fun kd => match kd with | .array component _ => component == comp | _ => false) x.kind) = some c := by
      have e1 := nidx U.vm (fun kd => match kd with | .array component _ => component == comp | _ => false)
      have e2 := nidx u.vm (fun kd => match kd with | .array component _ => component == comp | _ => false)
      have e3 : U.vm.bare = u.vm.bare := by first | exact hvm.bare_eq | exact hvm.bare_eq.symm
      rw [e3] at e1
      exact (e1.symm.trans e2).trans h2
    have hkind : k'.kind = k.kind := by rw [he]
    have f1 : U.vm.findClass (FieldType.array .int).toString = some comp := by rw [hvm.findClass]; exact hc
    have f2 : ∀ n, U.vm.findClass n = u.vm.findClass n := fun n => by rw [hvm.findClass]
    unfold nAA Cond.before Cond.holds
    simp only [Cond.value]
    rw [f1, Option.bind_some]
    refine (congrArg (fun o : Option Nat => (o.bind (fun c => (U.vm.classes[c]?).map fun (k : Class) => match k.kind with | .array _ ty => decide (ty = FieldType.array .int) && decide (U.vm.findClass ("[" ++ (FieldType.array .int).toString) = some c) | _ => false) == some true)) hi).trans ?_
    rw [Option.bind_some, hk', Option.map_some, hkind, f2]
    exact (congrArg (fun b : Bool => ((some b : Option Bool) == some true)) h4).trans rfl
def nX (U : State) : Prop :=
  (∀ x ∈ nWF, va_Nw (.fieldLinkNest x.1 x.2.1 x.2.2.1 x.2.2.2.1 x.2.2.2.2.1 x.2.2.2.2.2) U) ∧ (∀ x ∈ nWM, va_Nw (.methodLinkNest x.1 x.2.1 x.2.2.1 x.2.2.2) U) ∧ (∀ x ∈ nWC, va_Nw (.castable x.1 x.2) U) ∧ (∀ x ∈ nWD, va_Nw (.declares x) U) ∧ (∀ x ∈ nWO, va_AO x U) ∧ ((∀ x ∈ nWN, va_Nc x.1 x.2 U) ∧ nAA U)
theorem nX.warm {s U : State} (hW : s.WarmedH U.vm) (h : nX s) : nX U :=
  ⟨fun x hx => va_Nw.warmF hW (h.1 x hx), fun x hx => va_Nw.warmM hW (h.2.1 x hx), fun x hx => va_Nw.warmC hW (h.2.2.1 x hx), fun x hx => va_Nw.warmD hW (h.2.2.2.1 x hx), fun x hx => va_AO.moved hW.alike (h.2.2.2.2.1 x hx), fun x hx => va_Nc.moved hW.alike (h.2.2.2.2.2.1 x hx), nAA.moved hW.alike h.2.2.2.2.2.2⟩
theorem nX.same {s U : State} (e : s.vm = U.vm) (h : nX s) : nX U :=
  ⟨fun x hx => va_Nw.same rfl e (h.1 x hx), fun x hx => va_Nw.same rfl e (h.2.1 x hx), fun x hx => va_Nw.same rfl e (h.2.2.1 x hx), fun x hx => va_Nw.same rfl e (h.2.2.2.1 x hx), fun x hx => va_AO.moved (e ▸ Vm.Alike.refl _) (h.2.2.2.2.1 x hx), fun x hx => va_Nc.moved (e ▸ Vm.Alike.refl _) (h.2.2.2.2.2.1 x hx), nAA.moved (e ▸ Vm.Alike.refl _) h.2.2.2.2.2.2⟩
def nZ (sz : Nat) (U : State) (H : Heap) : Prop := vx_Zq Bundle.tN "UNASSIGNED_STACK" Bundle.steD (fun q => sz ≤ q) U H ∧ vx_Zq Bundle.tN "SUPPRESSED_SENTINEL" Bundle.listD (fun q => sz ≤ q) U H
/-- the world of a state: what every contract starts from and comes back to -/
def nU (G : nG) (sz : Nat) (na : nA) (h : nH) (U : State) : Prop := nR G sz na h U.heap ∧ sz ≤ U.heap.size ∧ va_K G.1 nCl (nT G.2) U ∧ nX U ∧ nZ sz U U.heap
theorem nU.blind {G : nG} {sz : Nat} {na : nA} {h : nH} {U : State} (g : JFrame) (mk : MethodId) (a : Array Value) (H : nU G sz na h U) : nU G sz na h (U.calling g mk a) :=
  ⟨H.1, H.2.1, va_K.moved (u := U) (U := U.calling g mk a) (Vm.Alike.refl U.vm) H.2.2.1, nX.same (s := U) (U := U.calling g mk a) rfl H.2.2.2.1, vx_Zq.moved (u := U) (U := U.calling g mk a) (Vm.Alike.refl U.vm) H.2.2.2.2.1, vx_Zq.moved (u := U) (U := U.calling g mk a) (Vm.Alike.refl U.vm) H.2.2.2.2.2⟩
theorem nR.mono {G : nG} {sz : Nat} {na : nA} {h h' : nH} {H : Heap} (R : nR G sz na h H) (hh : ∀ k e, h' k = some e → h k = some e) : nR G sz na h' H := by
  have ne : ∀ k, h' k ≠ none → h k ≠ none := fun k hk => by
    cases e : h' k with
    | none => exact absurd e hk
    | some x => rw [hh k x e]; exact fun q => by cases q
  exact ⟨fun k e hk => R.1 k e (hh k e hk), fun j k hj hk => R.2.1 j k (ne j hj) (ne k hk), fun k hk => R.2.2 k (ne k hk)⟩
/-- other addresses for names that nothing lies at -/
theorem nR.rename {G : nG} {sz : Nat} {na na' : nA} {h : nH} {H : Heap} (R : nR G sz na h H) (hh : ∀ k, h k ≠ none → na' k = na k) : nR G sz na' h H := by
  refine ⟨fun k e hk => ?_, fun j k hj hk q => R.2.1 j k hj hk (by rw [← hh j hj, ← hh k hk]; exact q), fun k hk => by rw [hh k hk]; exact R.2.2 k hk⟩
  rw [hh k (by rw [hk]; exact fun q => by cases q)]
  exact R.1 k e hk
theorem nR.P1 {G : nG} {sz : Nat} {na : nA} {h : nH} {H : Heap} (R : nR G sz na h H) {k : Nat} {e : nV} (hk : h k = some e) : va_P G.1 nCl [(na k, nve G.2 e)] H := by
  intro i q hi
  have hz : i < 1 := (List.getElem?_eq_some_iff.mp hi).1
  rw [show i = 0 by omega] at hi
  cases hi
  exact R.1 k e hk
/-- a cell written -/
theorem nR.put {G : nG} {sz : Nat} {na : nA} {h : nH} {H H1 : Heap} (R : nR G sz na h H) {k : Nat} {e0 e : nV} (hk : h k = some e0) (h1 : va_at G.1 nCl (na k, nve G.2 e) H1) (oq : ∀ q : Nat, q ≠ na k → H1[q]? = H[q]?) : nR G sz na (nup h k e) H1 := by
  have hn : ∀ j, nup h k e j ≠ none → h j ≠ none := fun j hj => by
    unfold nup at hj
    by_cases q : j = k
    · subst q; rw [hk]; exact fun q => by cases q
    · rw [if_neg q] at hj; exact hj
  refine ⟨fun j x hj => ?_, fun i j hi hj => R.2.1 i j (hn i hi) (hn j hj), fun j hj => R.2.2 j (hn j hj)⟩
  unfold nup at hj
  by_cases q : j = k
  · subst q
    rw [if_pos rfl] at hj
    cases hj
    exact h1
  · rw [if_neg q] at hj
    exact (R.1 j x hj).kept (oq _ fun z => q (R.2.1 j k (by rw [hj]; exact fun q => by cases q) (by rw [hk]; exact fun q => by cases q) z))
/-- a cell made -/
theorem nR.push {G : nG} {sz : Nat} {na : nA} {h : nH} {H H1 : Heap} (R : nR G sz na h H) {k q : Nat} {e : nV} (hk : h k = none) (hq : H.size ≤ q) (hs : sz ≤ q) (h1 : va_at G.1 nCl (q, nve G.2 e) H1) (oq : ∀ x : Nat, x < H.size → H1[x]? = H[x]?) : nR G sz (nua na k q) (nup h k e) H1 := by
  have ne : ∀ j, nup h k e j ≠ none → j = k ∨ (j ≠ k ∧ h j ≠ none ∧ nua na k q j = na j ∧ na j < H.size) := fun j hj => by
    by_cases z : j = k
    · exact Or.inl z
    · unfold nup at hj
      rw [if_neg z] at hj
      refine Or.inr ⟨z, hj, by unfold nua; rw [if_neg z], ?_⟩
      cases e : h j with
      | none => exact absurd e hj
      | some x => exact (R.1 j x e).lt
  have nk : nua na k q k = q := by unfold nua; rw [if_pos rfl]
  refine ⟨fun j x hj => ?_, fun i j hi hj hij => ?_, fun j hj => ?_⟩
  · have hj' : nup h k e j ≠ none := by rw [hj]; exact fun q => by cases q
    rcases ne j hj' with z | ⟨z, a, b, c⟩
    · subst z
      unfold nup at hj
      rw [if_pos rfl] at hj
      cases hj
      rw [nk]
      exact h1
    · unfold nup at hj
      rw [if_neg z] at hj
      rw [b]
      exact (R.1 j x hj).kept (oq _ c)
  · rcases ne i hi with z | ⟨z, a, b, c⟩ <;> rcases ne j hj with z' | ⟨z', a', b', c'⟩
    · exact z.trans z'.symm
    · subst z; rw [nk, b'] at hij; omega
    · subst z'; rw [nk, b] at hij; omega
    · rw [b, b'] at hij; exact R.2.1 i j a a' hij
  · rcases ne j hj with z | ⟨z, a, b, c⟩
    · subst z; rw [nk]; exact hs
    · rw [b]; exact R.2.2 j a
theorem nup_s (h : nH) (k : Nat) (e : nV) : nup h k e k = some e := by unfold nup; rw [if_pos rfl]
theorem nup_n {h : nH} {k j : Nat} {e : nV} (q : j ≠ k) : nup h k e j = h j := by unfold nup; rw [if_neg q]
theorem nua_s (na : nA) (k q : Nat) : nua na k q k = q := by unfold nua; rw [if_pos rfl]
theorem nua_n {na : nA} {k j q : Nat} (z : j ≠ k) : nua na k q j = na j := by unfold nua; rw [if_neg z]
/-- the locals: a list, a place without a value is none -/
def nLs (ls : Array Slot) (L : List (Option Value)) : Prop := ls.size = L.length ∧ lv_wf ls ∧ ∀ (i : Nat) (v : Value), L[i]? = some (some v) → ls[i]? = some (.val v) ∧ v.category = 1
def nlv (L : List (Option Value)) : List (Nat × Value) := (List.range L.length).filterMap fun i => (L[i]?.join).map fun v => (i, v)
theorem nlv_mem {L : List (Option Value)} {q : Nat × Value} : q ∈ nlv L ↔ L[q.1]? = some (some q.2) := by
  obtain ⟨i, v⟩ := q
  simp only [nlv, List.mem_filterMap, List.mem_range]
  constructor
  · rintro ⟨j, hj, h⟩
    cases e : L[j]? with
    | none => rw [e] at h; simp at h
    | some o =>
      cases o with
      | none => rw [e] at h; simp at h
      | some x =>
        rw [e] at h
        simp at h
        obtain ⟨rfl, rfl⟩ := h
        exact e
  · intro h
    have hl := (List.getElem?_eq_some_iff.mp h).1
    exact ⟨i, hl, by rw [show L[i]? = some (some v) from h]; rfl⟩
theorem nLs.has {ls : Array Slot} {L : List (Option Value)} (h : nLs ls L) : lv_has ls L.length (nlv L) := ⟨h.1, h.2.1, fun q hq => (h.2.2 q.1 q.2 (nlv_mem.mp hq)).1⟩
theorem nLs.set {ls ls' : Array Slot} {L : List (Option Value)} {i : Nat} {v : Value} (h : nLs ls L) (hv : v.category = 1) (h' : lv_has ls' L.length ((i, v) :: (nlv L).filter (fun q => !(q.1 == i) && !(q.1 + 1 == i && q.2.category == 2)))) : nLs ls' (L.set i (some v)) := by
  refine ⟨by rw [h'.1, List.length_set], h'.2.1, fun j x hj => ?_⟩
  by_cases e : j = i
  · subst e
    have hl : j < L.length := by have := (List.getElem?_eq_some_iff.mp hj).1; rwa [List.length_set] at this
    rw [List.getElem?_set_self hl] at hj
    cases hj
    exact ⟨h'.2.2 (j, v) List.mem_cons_self, hv⟩
  · rw [List.getElem?_set_ne (Ne.symm e)] at hj
    have hc := (h.2.2 j x hj).2
    refine ⟨h'.2.2 (j, x) (List.mem_cons_of_mem _ (List.mem_filter.mpr ⟨nlv_mem.mpr hj, ?_⟩)), hc⟩
    simp [e, hc]
/-- what stands still through a method -/
abbrev nK : Type := Program × Launch × Env × Room × State × MethodId × Array Value × List Frame × Method × Code × nG × Nat
def nC : nK → ByteArray → Nat → String → Option FieldType → Room → Prop
  | (p, l, e, R, s, m, args, below, meth, c, G, sz), cc, nL, own, ret, rm => p.tables.exec = Jvm.exec ∧ c.code = cc ∧ c.maxLocals = nL ∧ s.vm.findClass own = some m.cls ∧ (∀ w ∈ lw_all, w.before args s = true) ∧ va_K G.1 nCl (nT G.2) s ∧ nX s ∧ nZ sz s s.heap ∧ sz ≤ s.heap.size ∧ meth.locks = false ∧ meth.sig.returnType = ret ∧ R = rm ∧ l.stackTraces = false
/-- the goal: from the frame at pc with these locals and this stack, in any heap that holds h, the machine comes to Q -/
def WN : nK → nA → nH → Nat → Nat → (State → Prop) → Nat → List (Option Value) → List Value → Prop
  | (p, l, e, R, s, m, args, below, meth, c, G, sz), na, h, cells, slots, Q, pc, L, st => ∀ (H : Heap) (locs : List Loc) (ls : Array Slot), nR G sz na h H → va_S (fun q => sz ≤ q) s.heap H locs → nLs ls L → W p l e R s m args below meth c H locs cells slots Q (F0 m pc ls st)
theorem WN.mono {K : nK} {na : nA} {h h' : nH} {cells slots : Nat} {Q : State → Prop} {pc : Nat} {L : List (Option Value)} {st : List Value} (hh : ∀ k e, h' k = some e → h k = some e) (k : WN K na h' cells slots Q pc L st) : WN K na h cells slots Q pc L st := by
  obtain ⟨p, l, e, R, s, m, args, below, meth, c, G, sz⟩ := K
  intro H locs ls hR hS hL
  exact k H locs ls (hR.mono hh) hS hL
theorem WN.rename {K : nK} {na na' : nA} {h : nH} {cells slots : Nat} {Q : State → Prop} {pc : Nat} {L : List (Option Value)} {st : List Value} (hh : ∀ k, h k ≠ none → na' k = na k) (k : WN K na' h cells slots Q pc L st) : WN K na h cells slots Q pc L st := by
  obtain ⟨p, l, e, R, s, m, args, below, meth, c, G, sz⟩ := K
  intro H locs ls hR hS hL
  exact k H locs ls (hR.rename hh) hS hL
theorem WN.widen {K : nK} {na : nA} {h : nH} {cells slots c2 s2 : Nat} {Q : State → Prop} {pc : Nat} {L : List (Option Value)} {st : List Value} (h1 : cells ≤ c2) (h2 : slots ≤ s2) (k : WN K na h c2 s2 Q pc L st) : WN K na h cells slots Q pc L st := by
  obtain ⟨p, l, e, R, s, m, args, below, meth, c, G, sz⟩ := K
  intro H locs ls hR hS hL
  exact W.widen h1 h2 (k H locs ls hR hS hL)
/-- fewer locals known -/
theorem WN.locals {K : nK} {na : nA} {h : nH} {cells slots : Nat} {Q : State → Prop} {pc : Nat} {L L' : List (Option Value)} {st : List Value} (hl : L'.length = L.length) (hh : ∀ (i : Nat) (v : Value), L'[i]? = some (some v) → L[i]? = some (some v)) (k : WN K na h cells slots Q pc L' st) : WN K na h cells slots Q pc L st := by
  obtain ⟨p, l, e, R, s, m, args, below, meth, c, G, sz⟩ := K
  intro H locs ls hR hS hL
  exact k H locs ls hR hS ⟨by rw [hL.1, hl], hL.2.1, fun i v hv => hL.2.2 i v (hh i v hv)⟩
/-- distinct live names lie at distinct addresses -/
theorem WN.apart {K : nK} {na : nA} {h : nH} {cells slots : Nat} {Q : State → Prop} {pc : Nat} {L : List (Option Value)} {st : List Value} (k : (∀ i j, h i ≠ none → h j ≠ none → na i = na j → i = j) → WN K na h cells slots Q pc L st) : WN K na h cells slots Q pc L st := by
  obtain ⟨p, l, e, R, s, m, args, below, meth, c, G, sz⟩ := K
  intro H locs ls hR hS hL
  exact k hR.2.1 H locs ls hR hS hL
section NROW
variable {K : nK} {na : nA} {h : nH} {cells slots : Nat} {Q : State → Prop} {cc : ByteArray} {nL pc : Nat} {own : String} {ret : Option FieldType} {rm : Room} {L : List (Option Value)} {st : List Value}
theorem n_iconst (hC : nC K cc nL own ret rm) {n : Int} {v : Int32} (hdg : decode cc pc = .ok (.iconst n, 1)) (hv : Int32.ofInt n = v)
    (k : WN K na h cells slots Q (pc + 1) L (.int v :: st)) : WN K na h cells slots Q (pc) L (st) := by
  obtain ⟨p, l, e, R, s, m, args, below, meth, c, G, sz⟩ := K
  obtain ⟨hx, hb, hml, hown, hts, hK, hX, hZ, hsz, hlk, hrt, hRm, hl⟩ := hC
  intro H locs ls hR hS hL
  exact lv_iconst hx hb hdg hv (k H locs ls hR hS hL)
theorem n_bipush (hC : nC K cc nL own ret rm) {n : Int} {v : Int32} (hdg : decode cc pc = .ok (.bipush n, 2)) (hv : (Int8.ofInt n).toInt32 = v)
    (k : WN K na h cells slots Q (pc + 2) L (.int v :: st)) : WN K na h cells slots Q (pc) L (st) := by
  obtain ⟨p, l, e, R, s, m, args, below, meth, c, G, sz⟩ := K
  obtain ⟨hx, hb, hml, hown, hts, hK, hX, hZ, hsz, hlk, hrt, hRm, hl⟩ := hC
  intro H locs ls hR hS hL
  exact lv_bipush hx hb hdg hv (k H locs ls hR hS hL)
theorem n_sipush (hC : nC K cc nL own ret rm) {n : Int} {v : Int32} (hdg : decode cc pc = .ok (.sipush n, 3)) (hv : (Int16.ofInt n).toInt32 = v)
    (k : WN K na h cells slots Q (pc + 3) L (.int v :: st)) : WN K na h cells slots Q (pc) L (st) := by
  obtain ⟨p, l, e, R, s, m, args, below, meth, c, G, sz⟩ := K
  obtain ⟨hx, hb, hml, hown, hts, hK, hX, hZ, hsz, hlk, hrt, hRm, hl⟩ := hC
  intro H locs ls hR hS hL
  exact lv_sipush hx hb hdg hv (k H locs ls hR hS hL)
theorem n_ldc (hC : nC K cc nL own ret rm) {i : Nat} {v : Int32} (hq : Cond.constant own i v ∈ lw_all) (hdg : decode cc pc = .ok (.ldc i, 2))
    (k : WN K na h cells slots Q (pc + 2) L (.int v :: st)) : WN K na h cells slots Q (pc) L (st) := by
  obtain ⟨p, l, e, R, s, m, args, below, meth, c, G, sz⟩ := K
  obtain ⟨hx, hb, hml, hown, hts, hK, hX, hZ, hsz, hlk, hrt, hRm, hl⟩ := hC
  intro H locs ls hR hS hL
  exact lv_ldc hx hb hown (hts _ hq) hdg (k H locs ls hR hS hL)
theorem n_ldcw (hC : nC K cc nL own ret rm) {i : Nat} {v : Int32} (hq : Cond.constant own i v ∈ lw_all) (hdg : decode cc pc = .ok (.ldc_w i, 3))
    (k : WN K na h cells slots Q (pc + 3) L (.int v :: st)) : WN K na h cells slots Q (pc) L (st) := by
  obtain ⟨p, l, e, R, s, m, args, below, meth, c, G, sz⟩ := K
  obtain ⟨hx, hb, hml, hown, hts, hK, hX, hZ, hsz, hlk, hrt, hRm, hl⟩ := hC
  intro H locs ls hR hS hL
  exact lv_ldcw hx hb hown (hts _ hq) hdg (k H locs ls hR hS hL)
theorem n_null (hC : nC K cc nL own ret rm) (hdg : decode cc pc = .ok (.aconst_null, 1))
    (k : WN K na h cells slots Q (pc + 1) L (.null :: st)) : WN K na h cells slots Q (pc) L (st) := by
  obtain ⟨p, l, e, R, s, m, args, below, meth, c, G, sz⟩ := K
  obtain ⟨hx, hb, hml, hown, hts, hK, hX, hZ, hsz, hlk, hrt, hRm, hl⟩ := hC
  intro H locs ls hR hS hL
  exact lv_null hx hb hdg (k H locs ls hR hS hL)
theorem n_iload_n (hC : nC K cc nL own ret rm) {i : Fin 4} {x : Int32} (hdg : decode cc pc = .ok (.iload_n i, 1)) (hv : L[(i : Nat)]? = some (some (.int x)))
    (k : WN K na h cells slots Q (pc + 1) L (.int x :: st)) : WN K na h cells slots Q (pc) L (st) := by
  obtain ⟨p, l, e, R, s, m, args, below, meth, c, G, sz⟩ := K
  obtain ⟨hx, hb, hml, hown, hts, hK, hX, hZ, hsz, hlk, hrt, hRm, hl⟩ := hC
  intro H locs ls hR hS hL
  exact lv_iload_n hx hb hdg rfl (hL.2.2 _ _ hv).1 (k H locs ls hR hS hL)
theorem n_aload_n (hC : nC K cc nL own ret rm) {i : Fin 4} {x : Nat} (hdg : decode cc pc = .ok (.aload_n i, 1)) (hv : L[(i : Nat)]? = some (some (.ref x)))
    (k : WN K na h cells slots Q (pc + 1) L (.ref x :: st)) : WN K na h cells slots Q (pc) L (st) := by
  obtain ⟨p, l, e, R, s, m, args, below, meth, c, G, sz⟩ := K
  obtain ⟨hx, hb, hml, hown, hts, hK, hX, hZ, hsz, hlk, hrt, hRm, hl⟩ := hC
  intro H locs ls hR hS hL
  exact lv_aload_n hx hb hdg rfl (hL.2.2 _ _ hv).1 (k H locs ls hR hS hL)
theorem n_iload (hC : nC K cc nL own ret rm) {i : Nat} {x : Int32} (hdg : decode cc pc = .ok (.iload i, 2)) (hv : L[i]? = some (some (.int x)))
    (k : WN K na h cells slots Q (pc + 2) L (.int x :: st)) : WN K na h cells slots Q (pc) L (st) := by
  obtain ⟨p, l, e, R, s, m, args, below, meth, c, G, sz⟩ := K
  obtain ⟨hx, hb, hml, hown, hts, hK, hX, hZ, hsz, hlk, hrt, hRm, hl⟩ := hC
  intro H locs ls hR hS hL
  exact lv_iload hx hb hdg (hL.2.2 _ _ hv).1 (k H locs ls hR hS hL)
theorem n_aload (hC : nC K cc nL own ret rm) {i : Nat} {x : Nat} (hdg : decode cc pc = .ok (.aload i, 2)) (hv : L[i]? = some (some (.ref x)))
    (k : WN K na h cells slots Q (pc + 2) L (.ref x :: st)) : WN K na h cells slots Q (pc) L (st) := by
  obtain ⟨p, l, e, R, s, m, args, below, meth, c, G, sz⟩ := K
  obtain ⟨hx, hb, hml, hown, hts, hK, hX, hZ, hsz, hlk, hrt, hRm, hl⟩ := hC
  intro H locs ls hR hS hL
  exact lv_aload hx hb hdg (hL.2.2 _ _ hv).1 (k H locs ls hR hS hL)
theorem n_aload_nN (hC : nC K cc nL own ret rm) {i : Fin 4} (hdg : decode cc pc = .ok (.aload_n i, 1)) (hv : L[(i : Nat)]? = some (some .null))
    (k : WN K na h cells slots Q (pc + 1) L (.null :: st)) : WN K na h cells slots Q (pc) L (st) := by
  obtain ⟨p, l, e, R, s, m, args, below, meth, c, G, sz⟩ := K
  obtain ⟨hx, hb, hml, hown, hts, hK, hX, hZ, hsz, hlk, hrt, hRm, hl⟩ := hC
  intro H locs ls hR hS hL
  exact lv_aload_nN hx hb hdg rfl (hL.2.2 _ _ hv).1 (k H locs ls hR hS hL)
theorem n_aloadN (hC : nC K cc nL own ret rm) {i : Nat} (hdg : decode cc pc = .ok (.aload i, 2)) (hv : L[i]? = some (some .null))
    (k : WN K na h cells slots Q (pc + 2) L (.null :: st)) : WN K na h cells slots Q (pc) L (st) := by
  obtain ⟨p, l, e, R, s, m, args, below, meth, c, G, sz⟩ := K
  obtain ⟨hx, hb, hml, hown, hts, hK, hX, hZ, hsz, hlk, hrt, hRm, hl⟩ := hC
  intro H locs ls hR hS hL
  exact lv_aloadN hx hb hdg (hL.2.2 _ _ hv).1 (k H locs ls hR hS hL)
theorem n_istore_n (hC : nC K cc nL own ret rm) {i : Fin 4} {x : Int32} (hdg : decode cc pc = .ok (.istore_n i, 1)) (hi : (i : Nat) < L.length)
    (k : WN K na h cells slots Q (pc + 1) (L.set (i : Nat) (some (.int x))) (st)) : WN K na h cells slots Q (pc) L (.int x :: st) := by
  obtain ⟨p, l, e, R, s, m, args, below, meth, c, G, sz⟩ := K
  obtain ⟨hx, hb, hml, hown, hts, hK, hX, hZ, hsz, hlk, hrt, hRm, hl⟩ := hC
  intro H locs ls hR hS hL
  exact lv_istore_n hx hb hdg rfl hL.has hi rfl (fun ls2 h2 => k H locs ls2 hR hS (hL.set rfl h2))
theorem n_astore_n (hC : nC K cc nL own ret rm) {i : Fin 4} {x : Nat} (hdg : decode cc pc = .ok (.astore_n i, 1)) (hi : (i : Nat) < L.length)
    (k : WN K na h cells slots Q (pc + 1) (L.set (i : Nat) (some (.ref x))) (st)) : WN K na h cells slots Q (pc) L (.ref x :: st) := by
  obtain ⟨p, l, e, R, s, m, args, below, meth, c, G, sz⟩ := K
  obtain ⟨hx, hb, hml, hown, hts, hK, hX, hZ, hsz, hlk, hrt, hRm, hl⟩ := hC
  intro H locs ls hR hS hL
  exact lv_astore_n hx hb hdg rfl hL.has hi rfl (fun ls2 h2 => k H locs ls2 hR hS (hL.set rfl h2))
theorem n_istore (hC : nC K cc nL own ret rm) {i : Nat} {x : Int32} (hdg : decode cc pc = .ok (.istore i, 2)) (hi : i < L.length)
    (k : WN K na h cells slots Q (pc + 2) (L.set i (some (.int x))) (st)) : WN K na h cells slots Q (pc) L (.int x :: st) := by
  obtain ⟨p, l, e, R, s, m, args, below, meth, c, G, sz⟩ := K
  obtain ⟨hx, hb, hml, hown, hts, hK, hX, hZ, hsz, hlk, hrt, hRm, hl⟩ := hC
  intro H locs ls hR hS hL
  exact lv_istore hx hb hdg hL.has hi rfl (fun ls2 h2 => k H locs ls2 hR hS (hL.set rfl h2))
theorem n_astore (hC : nC K cc nL own ret rm) {i : Nat} {x : Nat} (hdg : decode cc pc = .ok (.astore i, 2)) (hi : i < L.length)
    (k : WN K na h cells slots Q (pc + 2) (L.set i (some (.ref x))) (st)) : WN K na h cells slots Q (pc) L (.ref x :: st) := by
  obtain ⟨p, l, e, R, s, m, args, below, meth, c, G, sz⟩ := K
  obtain ⟨hx, hb, hml, hown, hts, hK, hX, hZ, hsz, hlk, hrt, hRm, hl⟩ := hC
  intro H locs ls hR hS hL
  exact lv_astore hx hb hdg hL.has hi rfl (fun ls2 h2 => k H locs ls2 hR hS (hL.set rfl h2))
theorem n_astore_nN (hC : nC K cc nL own ret rm) {i : Fin 4} (hdg : decode cc pc = .ok (.astore_n i, 1)) (hi : (i : Nat) < L.length)
    (k : WN K na h cells slots Q (pc + 1) (L.set (i : Nat) (some .null)) (st)) : WN K na h cells slots Q (pc) L (.null :: st) := by
  obtain ⟨p, l, e, R, s, m, args, below, meth, c, G, sz⟩ := K
  obtain ⟨hx, hb, hml, hown, hts, hK, hX, hZ, hsz, hlk, hrt, hRm, hl⟩ := hC
  intro H locs ls hR hS hL
  exact lv_astore_nN hx hb hdg rfl hL.has hi rfl (fun ls2 h2 => k H locs ls2 hR hS (hL.set rfl h2))
theorem n_iinc (hC : nC K cc nL own ret rm) {i : Nat} {n : Int} {x v : Int32} (hdg : decode cc pc = .ok (.iinc i n, 3)) (hv : L[i]? = some (some (.int x))) (hv2 : x + Int32.ofInt n = v)
    (k : WN K na h cells slots Q (pc + 3) (L.set i (some (.int v))) (st)) : WN K na h cells slots Q (pc) L (st) := by
  obtain ⟨p, l, e, R, s, m, args, below, meth, c, G, sz⟩ := K
  obtain ⟨hx, hb, hml, hown, hts, hK, hX, hZ, hsz, hlk, hrt, hRm, hl⟩ := hC
  intro H locs ls hR hS hL
  have hm := nlv_mem.mpr (show L[(i, Value.int x).1]? = some (some (i, Value.int x).2) from hv)
  obtain ⟨j, hj⟩ := List.getElem?_of_mem hm
  exact lv_iinc hx hb hdg hL.has hj hv2 (List.getElem?_eq_some_iff.mp hv).1 rfl (fun ls2 h2 => k H locs ls2 hR hS (hL.set rfl h2))
theorem n_iadd (hC : nC K cc nL own ret rm) {x y : Int32} (hdg : decode cc pc = .ok (.iadd, 1))
    (k : WN K na h cells slots Q (pc + 1) L (.int (x + y) :: st)) : WN K na h cells slots Q (pc) L (.int y :: .int x :: st) := by
  obtain ⟨p, l, e, R, s, m, args, below, meth, c, G, sz⟩ := K
  obtain ⟨hx, hb, hml, hown, hts, hK, hX, hZ, hsz, hlk, hrt, hRm, hl⟩ := hC
  intro H locs ls hR hS hL
  exact lv_iadd hx hb hdg (k H locs ls hR hS hL)
theorem n_isub (hC : nC K cc nL own ret rm) {x y : Int32} (hdg : decode cc pc = .ok (.isub, 1))
    (k : WN K na h cells slots Q (pc + 1) L (.int (x - y) :: st)) : WN K na h cells slots Q (pc) L (.int y :: .int x :: st) := by
  obtain ⟨p, l, e, R, s, m, args, below, meth, c, G, sz⟩ := K
  obtain ⟨hx, hb, hml, hown, hts, hK, hX, hZ, hsz, hlk, hrt, hRm, hl⟩ := hC
  intro H locs ls hR hS hL
  exact lv_isub hx hb hdg (k H locs ls hR hS hL)
theorem n_imul (hC : nC K cc nL own ret rm) {x y : Int32} (hdg : decode cc pc = .ok (.imul, 1))
    (k : WN K na h cells slots Q (pc + 1) L (.int (x * y) :: st)) : WN K na h cells slots Q (pc) L (.int y :: .int x :: st) := by
  obtain ⟨p, l, e, R, s, m, args, below, meth, c, G, sz⟩ := K
  obtain ⟨hx, hb, hml, hown, hts, hK, hX, hZ, hsz, hlk, hrt, hRm, hl⟩ := hC
  intro H locs ls hR hS hL
  exact lv_imul hx hb hdg (k H locs ls hR hS hL)
theorem n_iand (hC : nC K cc nL own ret rm) {x y : Int32} (hdg : decode cc pc = .ok (.iand, 1))
    (k : WN K na h cells slots Q (pc + 1) L (.int (x &&& y) :: st)) : WN K na h cells slots Q (pc) L (.int y :: .int x :: st) := by
  obtain ⟨p, l, e, R, s, m, args, below, meth, c, G, sz⟩ := K
  obtain ⟨hx, hb, hml, hown, hts, hK, hX, hZ, hsz, hlk, hrt, hRm, hl⟩ := hC
  intro H locs ls hR hS hL
  exact lv_iand hx hb hdg (k H locs ls hR hS hL)
theorem n_ior (hC : nC K cc nL own ret rm) {x y : Int32} (hdg : decode cc pc = .ok (.ior, 1))
    (k : WN K na h cells slots Q (pc + 1) L (.int (x ||| y) :: st)) : WN K na h cells slots Q (pc) L (.int y :: .int x :: st) := by
  obtain ⟨p, l, e, R, s, m, args, below, meth, c, G, sz⟩ := K
  obtain ⟨hx, hb, hml, hown, hts, hK, hX, hZ, hsz, hlk, hrt, hRm, hl⟩ := hC
  intro H locs ls hR hS hL
  exact lv_ior hx hb hdg (k H locs ls hR hS hL)
theorem n_ixor (hC : nC K cc nL own ret rm) {x y : Int32} (hdg : decode cc pc = .ok (.ixor, 1))
    (k : WN K na h cells slots Q (pc + 1) L (.int (x ^^^ y) :: st)) : WN K na h cells slots Q (pc) L (.int y :: .int x :: st) := by
  obtain ⟨p, l, e, R, s, m, args, below, meth, c, G, sz⟩ := K
  obtain ⟨hx, hb, hml, hown, hts, hK, hX, hZ, hsz, hlk, hrt, hRm, hl⟩ := hC
  intro H locs ls hR hS hL
  exact lv_ixor hx hb hdg (k H locs ls hR hS hL)
theorem n_ishl (hC : nC K cc nL own ret rm) {x y : Int32} (hdg : decode cc pc = .ok (.ishl, 1))
    (k : WN K na h cells slots Q (pc + 1) L (.int (x <<< (y &&& 31)) :: st)) : WN K na h cells slots Q (pc) L (.int y :: .int x :: st) := by
  obtain ⟨p, l, e, R, s, m, args, below, meth, c, G, sz⟩ := K
  obtain ⟨hx, hb, hml, hown, hts, hK, hX, hZ, hsz, hlk, hrt, hRm, hl⟩ := hC
  intro H locs ls hR hS hL
  exact lv_ishl hx hb hdg (k H locs ls hR hS hL)
theorem n_ishr (hC : nC K cc nL own ret rm) {x y : Int32} (hdg : decode cc pc = .ok (.ishr, 1))
    (k : WN K na h cells slots Q (pc + 1) L (.int (x >>> (y &&& 31)) :: st)) : WN K na h cells slots Q (pc) L (.int y :: .int x :: st) := by
  obtain ⟨p, l, e, R, s, m, args, below, meth, c, G, sz⟩ := K
  obtain ⟨hx, hb, hml, hown, hts, hK, hX, hZ, hsz, hlk, hrt, hRm, hl⟩ := hC
  intro H locs ls hR hS hL
  exact lv_ishr hx hb hdg (k H locs ls hR hS hL)
theorem n_idiv (hC : nC K cc nL own ret rm) {x y : Int32} (hdg : decode cc pc = .ok (.idiv, 1)) (hne : ¬ y = 0)
    (k : WN K na h cells slots Q (pc + 1) L (.int (x / y) :: st)) : WN K na h cells slots Q (pc) L (.int y :: .int x :: st) := by
  obtain ⟨p, l, e, R, s, m, args, below, meth, c, G, sz⟩ := K
  obtain ⟨hx, hb, hml, hown, hts, hK, hX, hZ, hsz, hlk, hrt, hRm, hl⟩ := hC
  intro H locs ls hR hS hL
  exact lv_idiv hx hb hdg hne (k H locs ls hR hS hL)
theorem n_irem (hC : nC K cc nL own ret rm) {x y : Int32} (hdg : decode cc pc = .ok (.irem, 1)) (hne : ¬ y = 0)
    (k : WN K na h cells slots Q (pc + 1) L (.int (x - x / y * y) :: st)) : WN K na h cells slots Q (pc) L (.int y :: .int x :: st) := by
  obtain ⟨p, l, e, R, s, m, args, below, meth, c, G, sz⟩ := K
  obtain ⟨hx, hb, hml, hown, hts, hK, hX, hZ, hsz, hlk, hrt, hRm, hl⟩ := hC
  intro H locs ls hR hS hL
  exact lv_irem hx hb hdg hne (k H locs ls hR hS hL)
theorem n_ineg (hC : nC K cc nL own ret rm) {x : Int32} (hdg : decode cc pc = .ok (.ineg, 1))
    (k : WN K na h cells slots Q (pc + 1) L (.int (-x) :: st)) : WN K na h cells slots Q (pc) L (.int x :: st) := by
  obtain ⟨p, l, e, R, s, m, args, below, meth, c, G, sz⟩ := K
  obtain ⟨hx, hb, hml, hown, hts, hK, hX, hZ, hsz, hlk, hrt, hRm, hl⟩ := hC
  intro H locs ls hR hS hL
  exact lv_ineg hx hb hdg (k H locs ls hR hS hL)
theorem n_iushr (hC : nC K cc nL own ret rm) {x y v : Int32} (hdg : decode cc pc = .ok (.iushr, 1)) (hv : (x.toUInt32 >>> (y.toUInt32 &&& Int32.toUInt32 31)).toInt32 = v)
    (k : WN K na h cells slots Q (pc + 1) L (.int v :: st)) : WN K na h cells slots Q (pc) L (.int y :: .int x :: st) := by
  obtain ⟨p, l, e, R, s, m, args, below, meth, c, G, sz⟩ := K
  obtain ⟨hx, hb, hml, hown, hts, hK, hX, hZ, hsz, hlk, hrt, hRm, hl⟩ := hC
  intro H locs ls hR hS hL
  exact lv_iushr hx hb hdg hv (k H locs ls hR hS hL)
theorem n_i2b (hC : nC K cc nL own ret rm) {x : Int32} (hdg : decode cc pc = .ok (.i2b, 1))
    (k : WN K na h cells slots Q (pc + 1) L (.int (x.toInt8.toInt32) :: st)) : WN K na h cells slots Q (pc) L (.int x :: st) := by
  obtain ⟨p, l, e, R, s, m, args, below, meth, c, G, sz⟩ := K
  obtain ⟨hx, hb, hml, hown, hts, hK, hX, hZ, hsz, hlk, hrt, hRm, hl⟩ := hC
  intro H locs ls hR hS hL
  exact lv_i2b hx hb hdg rfl (k H locs ls hR hS hL)
theorem n_i2s (hC : nC K cc nL own ret rm) {x : Int32} (hdg : decode cc pc = .ok (.i2s, 1))
    (k : WN K na h cells slots Q (pc + 1) L (.int (x.toInt16.toInt32) :: st)) : WN K na h cells slots Q (pc) L (.int x :: st) := by
  obtain ⟨p, l, e, R, s, m, args, below, meth, c, G, sz⟩ := K
  obtain ⟨hx, hb, hml, hown, hts, hK, hX, hZ, hsz, hlk, hrt, hRm, hl⟩ := hC
  intro H locs ls hR hS hL
  exact lv_i2s hx hb hdg rfl (k H locs ls hR hS hL)
theorem n_i2c (hC : nC K cc nL own ret rm) {x : Int32} (hdg : decode cc pc = .ok (.i2c, 1))
    (k : WN K na h cells slots Q (pc + 1) L (.int (x.toUInt32 % 65536).toInt32 :: st)) : WN K na h cells slots Q (pc) L (.int x :: st) := by
  obtain ⟨p, l, e, R, s, m, args, below, meth, c, G, sz⟩ := K
  obtain ⟨hx, hb, hml, hown, hts, hK, hX, hZ, hsz, hlk, hrt, hRm, hl⟩ := hC
  intro H locs ls hR hS hL
  exact lv_i2c hx hb hdg rfl (k H locs ls hR hS hL)
theorem n_dup (hC : nC K cc nL own ret rm) {v : Value} (hdg : decode cc pc = .ok (.dup, 1)) (hc : v.category = 1)
    (k : WN K na h cells slots Q (pc + 1) L (v :: v :: st)) : WN K na h cells slots Q (pc) L (v :: st) := by
  obtain ⟨p, l, e, R, s, m, args, below, meth, c, G, sz⟩ := K
  obtain ⟨hx, hb, hml, hown, hts, hK, hX, hZ, hsz, hlk, hrt, hRm, hl⟩ := hC
  intro H locs ls hR hS hL
  exact lv_dup hx hb hdg hc (k H locs ls hR hS hL)
theorem n_pop (hC : nC K cc nL own ret rm) {v : Value} (hdg : decode cc pc = .ok (.pop, 1)) (hc : v.category = 1)
    (k : WN K na h cells slots Q (pc + 1) L (st)) : WN K na h cells slots Q (pc) L (v :: st) := by
  obtain ⟨p, l, e, R, s, m, args, below, meth, c, G, sz⟩ := K
  obtain ⟨hx, hb, hml, hown, hts, hK, hX, hZ, hsz, hlk, hrt, hRm, hl⟩ := hC
  intro H locs ls hR hS hL
  exact lv_pop hx hb hdg hc (k H locs ls hR hS hL)
theorem n_dup_x1 (hC : nC K cc nL own ret rm) {v u : Value} (hdg : decode cc pc = .ok (.dup_x1, 1)) (hc : v.category = 1) (hc2 : u.category = 1)
    (k : WN K na h cells slots Q (pc + 1) L (v :: u :: v :: st)) : WN K na h cells slots Q (pc) L (v :: u :: st) := by
  obtain ⟨p, l, e, R, s, m, args, below, meth, c, G, sz⟩ := K
  obtain ⟨hx, hb, hml, hown, hts, hK, hX, hZ, hsz, hlk, hrt, hRm, hl⟩ := hC
  intro H locs ls hR hS hL
  exact lv_dup_x1 hx hb hdg hc hc2 (k H locs ls hR hS hL)
theorem n_dup2 (hC : nC K cc nL own ret rm) {v u : Value} (hdg : decode cc pc = .ok (.dup2, 1)) (hc : v.category = 1) (hc2 : u.category = 1)
    (k : WN K na h cells slots Q (pc + 1) L (v :: u :: v :: u :: st)) : WN K na h cells slots Q (pc) L (v :: u :: st) := by
  obtain ⟨p, l, e, R, s, m, args, below, meth, c, G, sz⟩ := K
  obtain ⟨hx, hb, hml, hown, hts, hK, hX, hZ, hsz, hlk, hrt, hRm, hl⟩ := hC
  intro H locs ls hR hS hL
  exact lv_dup2_11 hx hb hdg hc hc2 (k H locs ls hR hS hL)
theorem n_goto (hC : nC K cc nL own ret rm) {off : Int} {tgt : Nat} (hdg : decode cc pc = .ok (.goto off, 3)) (ht : (pc : Int) + off = (tgt : Int))
    (k : WN K na h cells slots Q (tgt) L (st)) : WN K na h cells slots Q (pc) L (st) := by
  obtain ⟨p, l, e, R, s, m, args, below, meth, c, G, sz⟩ := K
  obtain ⟨hx, hb, hml, hown, hts, hK, hX, hZ, hsz, hlk, hrt, hRm, hl⟩ := hC
  intro H locs ls hR hS hL
  exact lv_goto hx hb hdg ht (k H locs ls hR hS hL)
theorem n_if_eq (hC : nC K cc nL own ret rm) {x : Int32} {off : Int} {tgt : Nat} (hdg : decode cc pc = .ok (.ifCond .eq off, 3)) (ht : (pc : Int) + off = (tgt : Int))
    (kt : x = 0 → WN K na h cells slots Q (tgt) L (st)) (kf : ¬ x = 0 → WN K na h cells slots Q (pc + 3) L (st)) : WN K na h cells slots Q (pc) L (.int x :: st) := by
  obtain ⟨p, l, e, R, s, m, args, below, meth, c, G, sz⟩ := K
  obtain ⟨hx, hb, hml, hown, hts, hK, hX, hZ, hsz, hlk, hrt, hRm, hl⟩ := hC
  intro H locs ls hR hS hL
  exact lv_if_eq hx hb hdg ht (fun q => kt q H locs ls hR hS hL) (fun q => kf q H locs ls hR hS hL)
theorem n_if_ne (hC : nC K cc nL own ret rm) {x : Int32} {off : Int} {tgt : Nat} (hdg : decode cc pc = .ok (.ifCond .ne off, 3)) (ht : (pc : Int) + off = (tgt : Int))
    (kt : ¬ x = 0 → WN K na h cells slots Q (tgt) L (st)) (kf : x = 0 → WN K na h cells slots Q (pc + 3) L (st)) : WN K na h cells slots Q (pc) L (.int x :: st) := by
  obtain ⟨p, l, e, R, s, m, args, below, meth, c, G, sz⟩ := K
  obtain ⟨hx, hb, hml, hown, hts, hK, hX, hZ, hsz, hlk, hrt, hRm, hl⟩ := hC
  intro H locs ls hR hS hL
  exact lv_if_ne hx hb hdg ht (fun q => kt q H locs ls hR hS hL) (fun q => kf q H locs ls hR hS hL)
theorem n_if_lt (hC : nC K cc nL own ret rm) {x : Int32} {off : Int} {tgt : Nat} (hdg : decode cc pc = .ok (.ifCond .lt off, 3)) (ht : (pc : Int) + off = (tgt : Int))
    (kt : x < 0 → WN K na h cells slots Q (tgt) L (st)) (kf : ¬ x < 0 → WN K na h cells slots Q (pc + 3) L (st)) : WN K na h cells slots Q (pc) L (.int x :: st) := by
  obtain ⟨p, l, e, R, s, m, args, below, meth, c, G, sz⟩ := K
  obtain ⟨hx, hb, hml, hown, hts, hK, hX, hZ, hsz, hlk, hrt, hRm, hl⟩ := hC
  intro H locs ls hR hS hL
  exact lv_if_lt hx hb hdg ht (fun q => kt q H locs ls hR hS hL) (fun q => kf q H locs ls hR hS hL)
theorem n_if_ge (hC : nC K cc nL own ret rm) {x : Int32} {off : Int} {tgt : Nat} (hdg : decode cc pc = .ok (.ifCond .ge off, 3)) (ht : (pc : Int) + off = (tgt : Int))
    (kt : 0 ≤ x → WN K na h cells slots Q (tgt) L (st)) (kf : ¬ 0 ≤ x → WN K na h cells slots Q (pc + 3) L (st)) : WN K na h cells slots Q (pc) L (.int x :: st) := by
  obtain ⟨p, l, e, R, s, m, args, below, meth, c, G, sz⟩ := K
  obtain ⟨hx, hb, hml, hown, hts, hK, hX, hZ, hsz, hlk, hrt, hRm, hl⟩ := hC
  intro H locs ls hR hS hL
  exact lv_if_ge hx hb hdg ht (fun q => kt q H locs ls hR hS hL) (fun q => kf q H locs ls hR hS hL)
theorem n_if_gt (hC : nC K cc nL own ret rm) {x : Int32} {off : Int} {tgt : Nat} (hdg : decode cc pc = .ok (.ifCond .gt off, 3)) (ht : (pc : Int) + off = (tgt : Int))
    (kt : 0 < x → WN K na h cells slots Q (tgt) L (st)) (kf : ¬ 0 < x → WN K na h cells slots Q (pc + 3) L (st)) : WN K na h cells slots Q (pc) L (.int x :: st) := by
  obtain ⟨p, l, e, R, s, m, args, below, meth, c, G, sz⟩ := K
  obtain ⟨hx, hb, hml, hown, hts, hK, hX, hZ, hsz, hlk, hrt, hRm, hl⟩ := hC
  intro H locs ls hR hS hL
  exact lv_if_gt hx hb hdg ht (fun q => kt q H locs ls hR hS hL) (fun q => kf q H locs ls hR hS hL)
theorem n_if_le (hC : nC K cc nL own ret rm) {x : Int32} {off : Int} {tgt : Nat} (hdg : decode cc pc = .ok (.ifCond .le off, 3)) (ht : (pc : Int) + off = (tgt : Int))
    (kt : x ≤ 0 → WN K na h cells slots Q (tgt) L (st)) (kf : ¬ x ≤ 0 → WN K na h cells slots Q (pc + 3) L (st)) : WN K na h cells slots Q (pc) L (.int x :: st) := by
  obtain ⟨p, l, e, R, s, m, args, below, meth, c, G, sz⟩ := K
  obtain ⟨hx, hb, hml, hown, hts, hK, hX, hZ, hsz, hlk, hrt, hRm, hl⟩ := hC
  intro H locs ls hR hS hL
  exact lv_if_le hx hb hdg ht (fun q => kt q H locs ls hR hS hL) (fun q => kf q H locs ls hR hS hL)
theorem n_icmp_eq (hC : nC K cc nL own ret rm) {x y : Int32} {off : Int} {tgt : Nat} (hdg : decode cc pc = .ok (.if_icmp .eq off, 3)) (ht : (pc : Int) + off = (tgt : Int))
    (kt : x = y → WN K na h cells slots Q (tgt) L (st)) (kf : ¬ x = y → WN K na h cells slots Q (pc + 3) L (st)) : WN K na h cells slots Q (pc) L (.int y :: .int x :: st) := by
  obtain ⟨p, l, e, R, s, m, args, below, meth, c, G, sz⟩ := K
  obtain ⟨hx, hb, hml, hown, hts, hK, hX, hZ, hsz, hlk, hrt, hRm, hl⟩ := hC
  intro H locs ls hR hS hL
  exact lv_icmp_eq hx hb hdg ht (fun q => kt q H locs ls hR hS hL) (fun q => kf q H locs ls hR hS hL)
theorem n_icmp_ne (hC : nC K cc nL own ret rm) {x y : Int32} {off : Int} {tgt : Nat} (hdg : decode cc pc = .ok (.if_icmp .ne off, 3)) (ht : (pc : Int) + off = (tgt : Int))
    (kt : ¬ x = y → WN K na h cells slots Q (tgt) L (st)) (kf : x = y → WN K na h cells slots Q (pc + 3) L (st)) : WN K na h cells slots Q (pc) L (.int y :: .int x :: st) := by
  obtain ⟨p, l, e, R, s, m, args, below, meth, c, G, sz⟩ := K
  obtain ⟨hx, hb, hml, hown, hts, hK, hX, hZ, hsz, hlk, hrt, hRm, hl⟩ := hC
  intro H locs ls hR hS hL
  exact lv_icmp_ne hx hb hdg ht (fun q => kt q H locs ls hR hS hL) (fun q => kf q H locs ls hR hS hL)
theorem n_icmp_lt (hC : nC K cc nL own ret rm) {x y : Int32} {off : Int} {tgt : Nat} (hdg : decode cc pc = .ok (.if_icmp .lt off, 3)) (ht : (pc : Int) + off = (tgt : Int))
    (kt : x < y → WN K na h cells slots Q (tgt) L (st)) (kf : ¬ x < y → WN K na h cells slots Q (pc + 3) L (st)) : WN K na h cells slots Q (pc) L (.int y :: .int x :: st) := by
  obtain ⟨p, l, e, R, s, m, args, below, meth, c, G, sz⟩ := K
  obtain ⟨hx, hb, hml, hown, hts, hK, hX, hZ, hsz, hlk, hrt, hRm, hl⟩ := hC
  intro H locs ls hR hS hL
  exact lv_icmp_lt hx hb hdg ht (fun q => kt q H locs ls hR hS hL) (fun q => kf q H locs ls hR hS hL)
theorem n_icmp_ge (hC : nC K cc nL own ret rm) {x y : Int32} {off : Int} {tgt : Nat} (hdg : decode cc pc = .ok (.if_icmp .ge off, 3)) (ht : (pc : Int) + off = (tgt : Int))
    (kt : y ≤ x → WN K na h cells slots Q (tgt) L (st)) (kf : ¬ y ≤ x → WN K na h cells slots Q (pc + 3) L (st)) : WN K na h cells slots Q (pc) L (.int y :: .int x :: st) := by
  obtain ⟨p, l, e, R, s, m, args, below, meth, c, G, sz⟩ := K
  obtain ⟨hx, hb, hml, hown, hts, hK, hX, hZ, hsz, hlk, hrt, hRm, hl⟩ := hC
  intro H locs ls hR hS hL
  exact lv_icmp_ge hx hb hdg ht (fun q => kt q H locs ls hR hS hL) (fun q => kf q H locs ls hR hS hL)
theorem n_icmp_gt (hC : nC K cc nL own ret rm) {x y : Int32} {off : Int} {tgt : Nat} (hdg : decode cc pc = .ok (.if_icmp .gt off, 3)) (ht : (pc : Int) + off = (tgt : Int))
    (kt : y < x → WN K na h cells slots Q (tgt) L (st)) (kf : ¬ y < x → WN K na h cells slots Q (pc + 3) L (st)) : WN K na h cells slots Q (pc) L (.int y :: .int x :: st) := by
  obtain ⟨p, l, e, R, s, m, args, below, meth, c, G, sz⟩ := K
  obtain ⟨hx, hb, hml, hown, hts, hK, hX, hZ, hsz, hlk, hrt, hRm, hl⟩ := hC
  intro H locs ls hR hS hL
  exact lv_icmp_gt hx hb hdg ht (fun q => kt q H locs ls hR hS hL) (fun q => kf q H locs ls hR hS hL)
theorem n_icmp_le (hC : nC K cc nL own ret rm) {x y : Int32} {off : Int} {tgt : Nat} (hdg : decode cc pc = .ok (.if_icmp .le off, 3)) (ht : (pc : Int) + off = (tgt : Int))
    (kt : x ≤ y → WN K na h cells slots Q (tgt) L (st)) (kf : ¬ x ≤ y → WN K na h cells slots Q (pc + 3) L (st)) : WN K na h cells slots Q (pc) L (.int y :: .int x :: st) := by
  obtain ⟨p, l, e, R, s, m, args, below, meth, c, G, sz⟩ := K
  obtain ⟨hx, hb, hml, hown, hts, hK, hX, hZ, hsz, hlk, hrt, hRm, hl⟩ := hC
  intro H locs ls hR hS hL
  exact lv_icmp_le hx hb hdg ht (fun q => kt q H locs ls hR hS hL) (fun q => kf q H locs ls hR hS hL)
theorem n_ifnull (hC : nC K cc nL own ret rm) {x : Nat} {off : Int} (hdg : decode cc pc = .ok (.ifnull off, 3))
    (k : WN K na h cells slots Q (pc + 3) L (st)) : WN K na h cells slots Q (pc) L (.ref x :: st) := by
  obtain ⟨p, l, e, R, s, m, args, below, meth, c, G, sz⟩ := K
  obtain ⟨hx, hb, hml, hown, hts, hK, hX, hZ, hsz, hlk, hrt, hRm, hl⟩ := hC
  intro H locs ls hR hS hL
  exact lv_ifnull hx hb hdg (k H locs ls hR hS hL)
theorem n_ifnonnull (hC : nC K cc nL own ret rm) {x : Nat} {off : Int} {tgt : Nat} (hdg : decode cc pc = .ok (.ifnonnull off, 3)) (ht : (pc : Int) + off = (tgt : Int))
    (k : WN K na h cells slots Q (tgt) L (st)) : WN K na h cells slots Q (pc) L (.ref x :: st) := by
  obtain ⟨p, l, e, R, s, m, args, below, meth, c, G, sz⟩ := K
  obtain ⟨hx, hb, hml, hown, hts, hK, hX, hZ, hsz, hlk, hrt, hRm, hl⟩ := hC
  intro H locs ls hR hS hL
  exact lv_ifnonnull hx hb hdg ht (k H locs ls hR hS hL)
theorem n_ifnullN (hC : nC K cc nL own ret rm) {off : Int} {tgt : Nat} (hdg : decode cc pc = .ok (.ifnull off, 3)) (ht : (pc : Int) + off = (tgt : Int))
    (k : WN K na h cells slots Q (tgt) L (st)) : WN K na h cells slots Q (pc) L (.null :: st) := by
  obtain ⟨p, l, e, R, s, m, args, below, meth, c, G, sz⟩ := K
  obtain ⟨hx, hb, hml, hown, hts, hK, hX, hZ, hsz, hlk, hrt, hRm, hl⟩ := hC
  intro H locs ls hR hS hL
  exact lv_ifnullN hx hb hdg ht (k H locs ls hR hS hL)
theorem n_ifnonnullN (hC : nC K cc nL own ret rm) {off : Int} (hdg : decode cc pc = .ok (.ifnonnull off, 3))
    (k : WN K na h cells slots Q (pc + 3) L (st)) : WN K na h cells slots Q (pc) L (.null :: st) := by
  obtain ⟨p, l, e, R, s, m, args, below, meth, c, G, sz⟩ := K
  obtain ⟨hx, hb, hml, hown, hts, hK, hX, hZ, hsz, hlk, hrt, hRm, hl⟩ := hC
  intro H locs ls hR hS hL
  exact lv_ifnonnullN hx hb hdg (k H locs ls hR hS hL)
theorem n_tableIn (hC : nC K cc nL own ret rm) {dflt lo hi : Int} {offs : Array Int} {len : Nat} {x : Int32} {off : Int} {tgt : Nat} (hdg : decode cc pc = .ok (.tableswitch dflt lo hi offs, len)) (h1 : ¬ x.toInt < lo) (h2 : ¬ hi < x.toInt) (ho : offs[(x.toInt - lo).toNat]? = some off) (ht : (pc : Int) + off = (tgt : Int))
    (k : WN K na h cells slots Q (tgt) L (st)) : WN K na h cells slots Q (pc) L (.int x :: st) := by
  obtain ⟨p, l, e, R, s, m, args, below, meth, c, G, sz⟩ := K
  obtain ⟨hx, hb, hml, hown, hts, hK, hX, hZ, hsz, hlk, hrt, hRm, hl⟩ := hC
  intro H locs ls hR hS hL
  exact lv_tableIn hx hb hdg h1 h2 ho ht (k H locs ls hR hS hL)
theorem n_tableOut (hC : nC K cc nL own ret rm) {dflt lo hi : Int} {offs : Array Int} {len : Nat} {x : Int32} {tgt : Nat} (hdg : decode cc pc = .ok (.tableswitch dflt lo hi offs, len)) (h1 : x.toInt < lo ∨ hi < x.toInt) (ht : (pc : Int) + dflt = (tgt : Int))
    (k : WN K na h cells slots Q (tgt) L (st)) : WN K na h cells slots Q (pc) L (.int x :: st) := by
  obtain ⟨p, l, e, R, s, m, args, below, meth, c, G, sz⟩ := K
  obtain ⟨hx, hb, hml, hown, hts, hK, hX, hZ, hsz, hlk, hrt, hRm, hl⟩ := hC
  intro H locs ls hR hS hL
  exact lv_tableOut hx hb hdg h1 ht (k H locs ls hR hS hL)
theorem n_iald (hC : nC K cc nL own ret rm) {a kk n : Nat} {f : Nat → Int32} {i : Int32} (hdg : decode cc pc = .ok (.iaload, 1)) (hk : na kk = a) (ha : h kk = some (.inl (0, n, .inl f))) (hin : vp_in i n)
    (k : WN K na h cells slots Q (pc + 1) L (.int (f i.toNatClampNeg) :: st)) : WN K na h cells slots Q (pc) L (.int i :: .ref a :: st) := by
  obtain ⟨p, l, e, R, s, m, args, below, meth, c, G, sz⟩ := K
  obtain ⟨hx, hb, hml, hown, hts, hK, hX, hZ, hsz, hlk, hrt, hRm, hl⟩ := hC
  intro H locs ls hR hS hL
  subst hk
  exact va_iald hx hb hK (hR.P1 ha) 0 0 rfl rfl hin hdg (k H locs ls hR hS hL)
theorem n_bald (hC : nC K cc nL own ret rm) {a kk n : Nat} {f : Nat → Int32} {i : Int32} (hdg : decode cc pc = .ok (.baload, 1)) (hk : na kk = a) (ha : h kk = some (.inl (1, n, .inl f))) (hin : vp_in i n)
    (k : WN K na h cells slots Q (pc + 1) L (.int (f i.toNatClampNeg) :: st)) : WN K na h cells slots Q (pc) L (.int i :: .ref a :: st) := by
  obtain ⟨p, l, e, R, s, m, args, below, meth, c, G, sz⟩ := K
  obtain ⟨hx, hb, hml, hown, hts, hK, hX, hZ, hsz, hlk, hrt, hRm, hl⟩ := hC
  intro H locs ls hR hS hL
  subst hk
  exact va_bald hx hb hK (hR.P1 ha) 0 1 rfl rfl hin hdg (k H locs ls hR hS hL)
theorem n_sald (hC : nC K cc nL own ret rm) {a kk n : Nat} {f : Nat → Int32} {i : Int32} (hdg : decode cc pc = .ok (.saload, 1)) (hk : na kk = a) (ha : h kk = some (.inl (2, n, .inl f))) (hin : vp_in i n)
    (k : WN K na h cells slots Q (pc + 1) L (.int (f i.toNatClampNeg) :: st)) : WN K na h cells slots Q (pc) L (.int i :: .ref a :: st) := by
  obtain ⟨p, l, e, R, s, m, args, below, meth, c, G, sz⟩ := K
  obtain ⟨hx, hb, hml, hown, hts, hK, hX, hZ, hsz, hlk, hrt, hRm, hl⟩ := hC
  intro H locs ls hR hS hL
  subst hk
  exact va_sald hx hb hK (hR.P1 ha) 0 2 rfl rfl hin hdg (k H locs ls hR hS hL)
theorem n_zald (hC : nC K cc nL own ret rm) {a kk n : Nat} {f : Nat → Int32} {i : Int32} (hdg : decode cc pc = .ok (.baload, 1)) (hk : na kk = a) (ha : h kk = some (.inl (3, n, .inl f))) (hin : vp_in i n)
    (k : WN K na h cells slots Q (pc + 1) L (.int (f i.toNatClampNeg) :: st)) : WN K na h cells slots Q (pc) L (.int i :: .ref a :: st) := by
  obtain ⟨p, l, e, R, s, m, args, below, meth, c, G, sz⟩ := K
  obtain ⟨hx, hb, hml, hown, hts, hK, hX, hZ, hsz, hlk, hrt, hRm, hl⟩ := hC
  intro H locs ls hR hS hL
  subst hk
  exact va_zald hx hb hK (hR.P1 ha) 0 3 rfl rfl hin hdg (k H locs ls hR hS hL)
theorem n_cald (hC : nC K cc nL own ret rm) {a kk n : Nat} {f : Nat → Int32} {i : Int32} (hdg : decode cc pc = .ok (.caload, 1)) (hk : na kk = a) (ha : h kk = some (.inl (4, n, .inl f))) (hin : vp_in i n)
    (k : WN K na h cells slots Q (pc + 1) L (.int (f i.toNatClampNeg) :: st)) : WN K na h cells slots Q (pc) L (.int i :: .ref a :: st) := by
  obtain ⟨p, l, e, R, s, m, args, below, meth, c, G, sz⟩ := K
  obtain ⟨hx, hb, hml, hown, hts, hK, hX, hZ, hsz, hlk, hrt, hRm, hl⟩ := hC
  intro H locs ls hR hS hL
  subst hk
  exact va_cald hx hb hK (hR.P1 ha) 0 4 rfl rfl hin hdg (k H locs ls hR hS hL)
theorem n_ialdN (hC : nC K cc nL own ret rm) {a kk n i : Nat} {f : Nat → Int32} (hdg : decode cc pc = .ok (.iaload, 1)) (hk : na kk = a) (ha : h kk = some (.inl (0, n, .inl f))) (hi : i < n) (hn : n < 2 ^ 31)
    (k : WN K na h cells slots Q (pc + 1) L (.int (f i) :: st)) : WN K na h cells slots Q (pc) L (.int (nI i) :: .ref a :: st) := by
  obtain ⟨p, l, e, R, s, m, args, below, meth, c, G, sz⟩ := K
  obtain ⟨hx, hb, hml, hown, hts, hK, hX, hZ, hsz, hlk, hrt, hRm, hl⟩ := hC
  intro H locs ls hR hS hL
  subst hk
  refine va_iald hx hb hK (hR.P1 ha) 0 0 rfl rfl (vp_in_nI hi hn) hdg ?_
  rw [nI_clamp (by omega)]
  exact k H locs ls hR hS hL
theorem n_aald (hC : nC K cc nL own ret rm) {a kk n t : Nat} {C : String} {f : Nat → Option Nat} {i : Int32} (t0 : Nat) (ht : ∀ d : Nat → ClassId, (nT d)[t0]? = some (d t, .object C)) (hdg : decode cc pc = .ok (.aaload, 1)) (hk : na kk = a) (ha : h kk = some (.inl (t, n, .inr (.inr (.inr (.inr f)))))) (hin : vp_in i n)
    (k : WN K na h cells slots Q (pc + 1) L (va_rf (f i.toNatClampNeg) :: st)) : WN K na h cells slots Q (pc) L (.int i :: .ref a :: st) := by
  obtain ⟨p, l, e, R, s, m, args, below, meth, c, G, sz⟩ := K
  obtain ⟨hx, hb, hml, hown, hts, hK, hX, hZ, hsz, hlk, hrt, hRm, hl⟩ := hC
  intro H locs ls hR hS hL
  subst hk
  exact va_aldq hx hb hK (hR.P1 ha) 0 t0 rfl (ht _) hin hdg (k H locs ls hR hS hL)
theorem n_aaldN (hC : nC K cc nL own ret rm) {a kk n t i : Nat} {C : String} {f : Nat → Option Nat} {v : Value} (t0 : Nat) (ht : ∀ d : Nat → ClassId, (nT d)[t0]? = some (d t, .object C)) (hdg : decode cc pc = .ok (.aaload, 1)) (hk : na kk = a) (ha : h kk = some (.inl (t, n, .inr (.inr (.inr (.inr f)))))) (hi : i < n) (hn : n < 2 ^ 31) (hv : va_rf (f i) = v)
    (k : WN K na h cells slots Q (pc + 1) L (v :: st)) : WN K na h cells slots Q (pc) L (.int (nI i) :: .ref a :: st) := by
  obtain ⟨p, l, e, R, s, m, args, below, meth, c, G, sz⟩ := K
  obtain ⟨hx, hb, hml, hown, hts, hK, hX, hZ, hsz, hlk, hrt, hRm, hl⟩ := hC
  intro H locs ls hR hS hL
  subst hk
  subst hv
  refine va_aldq hx hb hK (hR.P1 ha) 0 t0 rfl (ht _) (vp_in_nI hi hn) hdg ?_
  rw [nI_clamp (by omega)]
  exact k H locs ls hR hS hL
theorem n_aaldG (hC : nC K cc nL own ret rm) {a kk n i : Nat} {f : Nat → Option Nat} {v : Value} (hdg : decode cc pc = .ok (.aaload, 1)) (hk : na kk = a) (ha : h kk = some (.inl (5, n, .inr (.inr (.inr (.inr f)))))) (hi : i < n) (hn : n < 2 ^ 31) (hv : va_rf (f i) = v)
    (k : WN K na h cells slots Q (pc + 1) L (v :: st)) : WN K na h cells slots Q (pc) L (.int (nI i) :: .ref a :: st) := by
  obtain ⟨p, l, e, R, s, m, args, below, meth, c, G, sz⟩ := K
  obtain ⟨hx, hb, hml, hown, hts, hK, hX, hZ, hsz, hlk, hrt, hRm, hl⟩ := hC
  intro H locs ls hR hS hL
  subst hk
  subst hv
  have hin : vp_in (nI i) n := vp_in_nI hi hn
  have hlt : (nI i).toNatClampNeg < n := by rw [nI_clamp (by omega)]; exact hi
  refine W.aald (v := va_rf (f (nI i).toNatClampNeg)) (ty := .array .int) hx hb (hR.P1 ha 0 _ rfl) ((hK.2 5 _ rfl).1 n (fun j => va_rf (f j))) rfl (fun q => by cases q) (by show ¬ (nI i < 0 ∨ (arrV _ _ _).slots.size ≤ _); rw [arrV_size]; exact hin) (by show (arrV _ _ _).slots[_]? = _; rw [arrV_read _ _ hlt]) rfl rfl hdg ?_
  rw [nI_clamp (by omega)]
  exact k H locs ls hR hS hL
theorem n_alen (hC : nC K cc nL own ret rm) {a kk t : Nat} {x : vp_A} {v : Int32} (t0 : Nat) {ty : FieldType} (ht : ∀ d : Nat → ClassId, (nT d)[t0]? = some (d t, ty)) (hdg : decode cc pc = .ok (.arraylength, 1)) (hk : na kk = a) (ha : h kk = some (.inl (t, x))) (hv : Int32.ofNat x.1 = v)
    (k : WN K na h cells slots Q (pc + 1) L (.int v :: st)) : WN K na h cells slots Q (pc) L (.ref a :: st) := by
  obtain ⟨p, l, e, R, s, m, args, below, meth, c, G, sz⟩ := K
  obtain ⟨hx, hb, hml, hown, hts, hK, hX, hZ, hsz, hlk, hrt, hRm, hl⟩ := hC
  intro H locs ls hR hS hL
  subst hk
  exact va_alen hx hb hK (hR.P1 ha) 0 t0 rfl (ht _) hv hdg (k H locs ls hR hS hL)
theorem n_iast (hC : nC K cc nL own ret rm) {a kk n : Nat} {f : Nat → Int32} {i x : Int32} (hdg : decode cc pc = .ok (.iastore, 1)) (hk : na kk = a) (ha : h kk = some (.inl (0, n, .inl f))) (hin : vp_in i n)
    (k : WN K na (nup h kk (.inl (0, n, .inl (upd f i.toNatClampNeg x)))) cells slots Q (pc + 1) L (st)) : WN K na h cells slots Q (pc) L (.int x :: .int i :: .ref a :: st) := by
  obtain ⟨p, l, e, R, s, m, args, below, meth, c, G, sz⟩ := K
  obtain ⟨hx, hb, hml, hown, hts, hK, hX, hZ, hsz, hlk, hrt, hRm, hl⟩ := hC
  intro H locs ls hR hS hL
  subst hk
  refine W.iast hx hb (hR.P1 ha 0 _ rfl) ((hK.2 0 _ rfl).1 n (fun j => .int (f j))) (fun q => by cases q) (by show ¬ (i < 0 ∨ (arrV _ _ _).slots.size ≤ _); rw [arrV_size]; exact hin) rfl rfl hdg fun H1 e1 z1 oq => ?_
  refine k H1 _ ls (hR.put ha ?_ oq) (hS.put z1 oq (hR.2.2 kk (by rw [ha]; exact fun q => by cases q))) hL
  show H1[na kk]? = some (vp_cell _ _)
  rw [e1]
  show some (Cell.setSlot (vp_cell _ _) _ _) = _
  rw [vp_cell_i, vp_cell_i, arrV_store]
  congr 2
  funext q
  by_cases hq : q = i.toNatClampNeg
  · subst hq
    simp [updV, upd]
  · simp [updV, upd, hq]
theorem n_iastN (hC : nC K cc nL own ret rm) {a kk n i : Nat} {f : Nat → Int32} {x : Int32} (hdg : decode cc pc = .ok (.iastore, 1)) (hk : na kk = a) (ha : h kk = some (.inl (0, n, .inl f))) (hi : i < n) (hn : n < 2 ^ 31)
    (k : WN K na (nup h kk (.inl (0, n, .inl (upd f i x)))) cells slots Q (pc + 1) L (st)) : WN K na h cells slots Q (pc) L (.int x :: .int (nI i) :: .ref a :: st) := by
  obtain ⟨p, l, e, R, s, m, args, below, meth, c, G, sz⟩ := K
  obtain ⟨hx, hb, hml, hown, hts, hK, hX, hZ, hsz, hlk, hrt, hRm, hl⟩ := hC
  intro H locs ls hR hS hL
  have hC : nC (p, l, e, R, s, m, args, below, meth, c, G, sz) cc nL own ret rm := ⟨hx, hb, hml, hown, hts, hK, hX, hZ, hsz, hlk, hrt, hRm, hl⟩
  refine n_iast (K := (p, l, e, R, s, m, args, below, meth, c, G, sz)) hC hdg hk ha (vp_in_nI hi hn) ?_ H locs ls hR hS hL
  rw [nI_clamp (by omega)]
  exact k
theorem n_bast (hC : nC K cc nL own ret rm) {a kk n : Nat} {f : Nat → Int32} {i x : Int32} (hdg : decode cc pc = .ok (.bastore, 1)) (hk : na kk = a) (ha : h kk = some (.inl (1, n, .inl f))) (hin : vp_in i n)
    (k : WN K na (nup h kk (.inl (1, n, .inl (upd f i.toNatClampNeg (vp_nar .byte x))))) cells slots Q (pc + 1) L (st)) : WN K na h cells slots Q (pc) L (.int x :: .int i :: .ref a :: st) := by
  obtain ⟨p, l, e, R, s, m, args, below, meth, c, G, sz⟩ := K
  obtain ⟨hx, hb, hml, hown, hts, hK, hX, hZ, hsz, hlk, hrt, hRm, hl⟩ := hC
  intro H locs ls hR hS hL
  subst hk
  refine W.bast hx hb (hR.P1 ha 0 _ rfl) ((hK.2 1 _ rfl).1 n (fun j => .int (f j))) (fun q => by cases q) (by show ¬ (i < 0 ∨ (arrV _ _ _).slots.size ≤ _); rw [arrV_size]; exact hin) rfl rfl hdg fun H1 e z oq => ?_
  refine k H1 _ ls (hR.put ha ?_ oq) (hS.put z oq (hR.2.2 kk (by rw [ha]; exact fun q => by cases q))) hL
  show H1[na kk]? = some (vp_cell _ _)
  rw [e]
  rw [vp_cell_i, vp_cell_i, arrV_store]
  congr 2
  funext q
  by_cases hq : q = i.toNatClampNeg
  · subst hq
    simp [updV, upd, vp_nar]
    try rfl
  · simp [updV, upd, hq]
theorem n_zast (hC : nC K cc nL own ret rm) {a kk n : Nat} {f : Nat → Int32} {i x : Int32} (hdg : decode cc pc = .ok (.bastore, 1)) (hk : na kk = a) (ha : h kk = some (.inl (3, n, .inl f))) (hin : vp_in i n)
    (k : WN K na (nup h kk (.inl (3, n, .inl (upd f i.toNatClampNeg (vp_nar .boolean x))))) cells slots Q (pc + 1) L (st)) : WN K na h cells slots Q (pc) L (.int x :: .int i :: .ref a :: st) := by
  obtain ⟨p, l, e, R, s, m, args, below, meth, c, G, sz⟩ := K
  obtain ⟨hx, hb, hml, hown, hts, hK, hX, hZ, hsz, hlk, hrt, hRm, hl⟩ := hC
  intro H locs ls hR hS hL
  subst hk
  refine W.zast hx hb (hR.P1 ha 0 _ rfl) ((hK.2 3 _ rfl).1 n (fun j => .int (f j))) (fun q => by cases q) (by show ¬ (i < 0 ∨ (arrV _ _ _).slots.size ≤ _); rw [arrV_size]; exact hin) rfl rfl hdg fun H1 e z oq => ?_
  refine k H1 _ ls (hR.put ha ?_ oq) (hS.put z oq (hR.2.2 kk (by rw [ha]; exact fun q => by cases q))) hL
  show H1[na kk]? = some (vp_cell _ _)
  rw [e]
  rw [vp_cell_i, vp_cell_i, arrV_store]
  congr 2
  funext q
  by_cases hq : q = i.toNatClampNeg
  · subst hq
    simp [updV, upd, vp_nar]
    try rfl
  · simp [updV, upd, hq]
theorem n_cast (hC : nC K cc nL own ret rm) {a kk n : Nat} {f : Nat → Int32} {i x : Int32} (hdg : decode cc pc = .ok (.castore, 1)) (hk : na kk = a) (ha : h kk = some (.inl (4, n, .inl f))) (hin : vp_in i n)
    (k : WN K na (nup h kk (.inl (4, n, .inl (upd f i.toNatClampNeg (vp_nar .char x))))) cells slots Q (pc + 1) L (st)) : WN K na h cells slots Q (pc) L (.int x :: .int i :: .ref a :: st) := by
  obtain ⟨p, l, e, R, s, m, args, below, meth, c, G, sz⟩ := K
  obtain ⟨hx, hb, hml, hown, hts, hK, hX, hZ, hsz, hlk, hrt, hRm, hl⟩ := hC
  intro H locs ls hR hS hL
  subst hk
  refine W.cast hx hb (hR.P1 ha 0 _ rfl) ((hK.2 4 _ rfl).1 n (fun j => .int (f j))) (fun q => by cases q) (by show ¬ (i < 0 ∨ (arrV _ _ _).slots.size ≤ _); rw [arrV_size]; exact hin) rfl rfl hdg fun H1 e z oq => ?_
  refine k H1 _ ls (hR.put ha ?_ oq) (hS.put z oq (hR.2.2 kk (by rw [ha]; exact fun q => by cases q))) hL
  show H1[na kk]? = some (vp_cell _ _)
  rw [e]
  rw [vp_cell_i, vp_cell_i, arrV_store]
  congr 2
  funext q
  by_cases hq : q = i.toNatClampNeg
  · subst hq
    simp [updV, upd, vp_nar]
    try rfl
  · simp [updV, upd, hq]
theorem n_sast (hC : nC K cc nL own ret rm) {a kk n : Nat} {f : Nat → Int32} {i x : Int32} (hdg : decode cc pc = .ok (.sastore, 1)) (hk : na kk = a) (ha : h kk = some (.inl (2, n, .inl f))) (hin : vp_in i n)
    (k : WN K na (nup h kk (.inl (2, n, .inl (upd f i.toNatClampNeg (vp_nar .short x))))) cells slots Q (pc + 1) L (st)) : WN K na h cells slots Q (pc) L (.int x :: .int i :: .ref a :: st) := by
  obtain ⟨p, l, e, R, s, m, args, below, meth, c, G, sz⟩ := K
  obtain ⟨hx, hb, hml, hown, hts, hK, hX, hZ, hsz, hlk, hrt, hRm, hl⟩ := hC
  intro H locs ls hR hS hL
  subst hk
  refine W.sast hx hb (hR.P1 ha 0 _ rfl) ((hK.2 2 _ rfl).1 n (fun j => .int (f j))) (fun q => by cases q) (by show ¬ (i < 0 ∨ (arrV _ _ _).slots.size ≤ _); rw [arrV_size]; exact hin) rfl rfl hdg fun H1 e z oq => ?_
  refine k H1 _ ls (hR.put ha ?_ oq) (hS.put z oq (hR.2.2 kk (by rw [ha]; exact fun q => by cases q))) hL
  show H1[na kk]? = some (vp_cell _ _)
  rw [e]
  rw [vp_cell_i, vp_cell_i, arrV_store]
  congr 2
  funext q
  by_cases hq : q = i.toNatClampNeg
  · subst hq
    simp [updV, upd, vp_nar]
    try rfl
  · simp [updV, upd, hq]
theorem n_aast (hC : nC K cc nL own ret rm) {a kk kv v n t ci : Nat} {C : String} {vs : List Value} {rC : vw_C} {f : Nat → Option Nat} {i : Int32} (t0 : Nat) (ht : ∀ d : Nat → ClassId, (nT d)[t0]? = some (d t, .object C)) (hdg : decode cc pc = .ok (.aastore, 1)) (hk : na kk = a) (ha : h kk = some (.inl (t, n, .inr (.inr (.inr (.inr f)))))) (hkv : na kv = v) (hv : h kv = some (.inr (ci, vs))) (hc : nCl[ci]? = some rC) (hsub : rC.1 = C ∨ (rC.1, C) ∈ nWC) (hin : vp_in i n)
    (k : WN K na (nup h kk (.inl (t, n, .inr (.inr (.inr (.inr (va_up f i.toNatClampNeg (some v)))))))) cells slots Q (pc + 1) L (st)) : WN K na h cells slots Q (pc) L (.ref v :: .int i :: .ref a :: st) := by
  obtain ⟨p, l, e, R, s, m, args, below, meth, c, G, sz⟩ := K
  obtain ⟨hx, hb, hml, hown, hts, hK, hX, hZ, hsz, hlk, hrt, hRm, hl⟩ := hC
  intro H locs ls hR hS hL
  subst hk
  subst hkv
  have hlt : i.toNatClampNeg < n := Nat.not_le.mp fun q => hin (Or.inr q)
  have h0 : ¬ i < 0 := fun q => hin (Or.inl q)
  obtain ⟨r2, hr2, cellV, g1, g2, g3, -⟩ := hR.P1 hv 0 _ rfl
  have hcls := (hK.1 ci rC hc).2
  obtain ⟨kA, comp, k1, k2, k3, -⟩ := (hK.2 t0 _ (ht _)).2
  obtain ⟨kC, hkC, -⟩ := hcls.2
  have hasg : s.vm.assignable (G.1.1 ci) comp = true := by
    rcases hsub with q | q
    · have e9 : comp = G.1.1 ci := Option.some.inj (k3.symm.trans (by rw [← q]; exact hcls.1))
      rw [e9]
      exact va_assign hcls
    · obtain ⟨c0, t1, f1, f2, f3⟩ := Cond.castable_spec (va_Nw.use (A := args) rfl (hX.2.2.1 _ q))
      cases f1.symm.trans hcls.1
      cases f2.symm.trans k3
      exact f3
  obtain ⟨kT, hkT, -⟩ := Vm.findClass_spec k3
  refine W.aast hx hb (hR.P1 ha 0 _ rfl) (fun q h => by cases h) (fun h => by cases h) k1 k2 rfl hkT ⟨h0, by show _ < (arrV _ _ _).slots.size; rw [arrV_size]; exact hlt⟩ g1 (fun q h => by rw [g3] at h; cases h) (by rw [g2]; exact hkC) (by rw [g2]; exact hasg) rfl rfl hdg fun H1 e1 z1 oq => ?_
  refine k H1 _ ls (hR.put ha ?_ oq) (hS.put z1 oq (hR.2.2 kk (by rw [ha]; exact fun q => by cases q))) hL
  show H1[na kk]? = some (vp_cell _ _)
  rw [e1]
  show some (Cell.setSlot (vp_cell _ _) _ _) = _
  rw [vp_cell_q, vp_cell_q, arrV_store]
  congr 2
  funext q
  by_cases hq : q = i.toNatClampNeg
  · subst hq
    simp [updV, va_up, va_rf]
  · simp [updV, va_up, hq]
theorem n_get (hC : nC K cc nL own ret rm) {a kk ci index N : Nat} {ref C : String} {T : u_T} {fs : List Value} {v : Value} (hin : ∀ w ∈ u_ws C T N, w ∈ lw_all) (j : Nat) (hq : Cond.fieldLink own index ref (T j).2.1 (T j).2.2.1 ∈ lw_all) (hdg : decode cc pc = .ok (.getfield index, 3)) (hk : na kk = a) (he : h kk = some (.inr (ci, fs))) (hc : nCl[ci]? = some (C, T, N)) (hj : j < N) (hr : (T j).1 = ref) (hv : fs[j]? = some v)
    (k : WN K na h cells slots Q (pc + 3) L (v :: st)) : WN K na h cells slots Q (pc) L (.ref a :: st) := by
  obtain ⟨p, l, e, R, s, m, args, below, meth, c, G, sz⟩ := K
  obtain ⟨hx, hb, hml, hown, hts, hK, hX, hZ, hsz, hlk, hrt, hRm, hl⟩ := hC
  intro H locs ls hR hS hL
  subst hk
  exact va_get hx hb hts hin hown hK (hR.P1 he) 0 rfl hc j hj (hts _ hq) (fun x hx => by rw [← hr]; exact hx) hv hdg (k H locs ls hR hS hL)
theorem n_getN (hC : nC K cc nL own ret rm) {a kk ci index N : Nat} {ref C host : String} {T : u_T} {fs : List Value} {v : Value} (hin : ∀ w ∈ u_ws C T N, w ∈ lw_all) (j : Nat) (hq : (own, index, ref, (T j).2.1, (T j).2.2.1, host) ∈ nWF) (hdg : decode cc pc = .ok (.getfield index, 3)) (hk : na kk = a) (he : h kk = some (.inr (ci, fs))) (hc : nCl[ci]? = some (C, T, N)) (hj : j < N) (hr : (T j).1 = ref) (hv : fs[j]? = some v)
    (k : WN K na h cells slots Q (pc + 3) L (v :: st)) : WN K na h cells slots Q (pc) L (.ref a :: st) := by
  obtain ⟨p, l, e, R, s, m, args, below, meth, c, G, sz⟩ := K
  obtain ⟨hx, hb, hml, hown, hts, hK, hX, hZ, hsz, hlk, hrt, hRm, hl⟩ := hC
  intro H locs ls hR hS hL
  subst hk
  exact va_getN hx hb hts hin hown hK (hR.P1 he) 0 rfl hc j hj (va_Nw.use rfl (hX.1 _ hq)) (fun x hx => by rw [← hr]; exact hx) hv hdg (k H locs ls hR hS hL)
theorem n_put (hC : nC K cc nL own ret rm) {a kk ci index N : Nat} {ref C : String} {T : u_T} {fs : List Value} {v : Value} {ty : FieldType} (hin : ∀ w ∈ u_ws C T N, w ∈ lw_all) (ty0 : Nat → FieldType) (hty : ∀ k, k < N → parseFieldDescriptor (T k).2.2.1 = some (ty0 k)) (hnm : ∀ a, a < N → ∀ b, b < N → a ≠ b → (T a).2.1 ≠ (T b).2.1) (j : Nat) (hq : Cond.fieldLink own index ref (T j).2.1 (T j).2.2.1 ∈ lw_all) (hdg : decode cc pc = .ok (.putfield index, 3)) (hk : na kk = a) (he : h kk = some (.inr (ci, fs))) (hc : nCl[ci]? = some (C, T, N)) (hj : j < N) (hr : (T j).1 = ref) (hfin : (T j).2.2.2 = false) (hd : parseFieldDescriptor (T j).2.2.1 = some ty) (hn : narrow ty v = v) (hfit : fits ty v = true) (hl9 : j < fs.length)
    (k : WN K na (nup h kk (.inr (ci, fs.set j v))) cells slots Q (pc + 3) L (st)) : WN K na h cells slots Q (pc) L (v :: .ref a :: st) := by
  obtain ⟨p, l, e, R, s, m, args, below, meth, c, G, sz⟩ := K
  obtain ⟨hx, hb, hml, hown, hts, hK, hX, hZ, hsz, hlk, hrt, hRm, hl⟩ := hC
  intro H locs ls hR hS hL
  subst hk
  subst hr
  have hap := va_apart (own := own) hts hin ty0 hty hnm hK hc
  obtain ⟨r2, h1, cell, q1, q2, q3, q4⟩ := hR.P1 he 0 _ rfl
  have hr2 : r2 = (C, T, N) := Option.some.inj (h1.symm.trans hc)
  subst hr2
  obtain ⟨hS2, hfc, kC, hkC, hkind⟩ := hK.1 ci _ hc
  obtain ⟨cf, kf, fi, f, hi, hsl⟩ := hS2 j hj
  have hlay := hts _ (hin _ (u_in_lay hj))
  unfold u_lay at hlay
  rw [if_neg (by rw [hfin]; decide)] at hlay
  have hst := (u_facts hfc hkC (u_lays hts hin hj) hi).1
  have h6 := u_store hfc hkC hkind hlay hi hd hn hfit
  refine W.putK hx hb (f := f) ⟨hown, hts _ hq, ⟨_, _, _, hi⟩, hst⟩ (by rw [q2]; exact h6) q1 q3 (by rw [hsl]; exact k2_hasslot (q4 j hj)) rfl rfl hdg fun H1 e1 e2 e3 => ?_
  rw [hsl] at e1
  exact k H1 _ ls (hR.put he ⟨_, hc, t_OB.to (V := updV (vp_V fs) j v) ⟨_, e1, q2, q3, t_set q4 hap hj v⟩ (fun x _ => vp_updV_set hl9 v x)⟩ e3) (hS.put e2 e3 (hR.2.2 kk (by rw [he]; exact fun q => by cases q))) hL
theorem n_putF (hC : nC K cc nL own ret rm) {a kk ci index N : Nat} {ref C : String} {T : u_T} {fs : List Value} {v : Value} {ty : FieldType} (hin : ∀ w ∈ u_ws C T N, w ∈ lw_all) (ty0 : Nat → FieldType) (hty : ∀ k, k < N → parseFieldDescriptor (T k).2.2.1 = some (ty0 k)) (hnm : ∀ a, a < N → ∀ b, b < N → a ≠ b → (T a).2.1 ≠ (T b).2.1) (j : Nat) (hq : Cond.fieldLink own index ref (T j).2.1 (T j).2.2.1 ∈ lw_all) (hdg : decode cc pc = .ok (.putfield index, 3)) (hk : na kk = a) (he : h kk = some (.inr (ci, fs))) (hc : nCl[ci]? = some (C, T, N)) (hj : j < N) (hr : (T j).1 = ref) (hfin : (T j).2.2.2 = true) (hin2 : K.2.2.2.2.2.2.2.2.1.name = "<init>") (hdecl : (T j).1 = own) (hd : parseFieldDescriptor (T j).2.2.1 = some ty) (hn : narrow ty v = v) (hfit : fits ty v = true) (hl9 : j < fs.length)
    (k : WN K na (nup h kk (.inr (ci, fs.set j v))) cells slots Q (pc + 3) L (st)) : WN K na h cells slots Q (pc) L (v :: .ref a :: st) := by
  obtain ⟨p, l, e, R, s, m, args, below, meth, c, G, sz⟩ := K
  obtain ⟨hx, hb, hml, hown, hts, hK, hX, hZ, hsz, hlk, hrt, hRm, hl⟩ := hC
  intro H locs ls hR hS hL
  subst hk
  subst hr
  have hap := va_apart (own := own) hts hin ty0 hty hnm hK hc
  obtain ⟨r2, h1, cell, q1, q2, q3, q4⟩ := hR.P1 he 0 _ rfl
  have hr2 : r2 = (C, T, N) := Option.some.inj (h1.symm.trans hc)
  subst hr2
  obtain ⟨hS2, hfc, kC, hkC, hkind⟩ := hK.1 ci _ hc
  obtain ⟨cf, kf, fi, f, hi, hsl⟩ := hS2 j hj
  have hlay := hts _ (hin _ (u_in_lay hj))
  unfold u_lay at hlay
  rw [if_pos hfin] at hlay
  have hst := (u_facts hfc hkC (u_lays hts hin hj) hi).1
  have hcf : m.cls = cf := by
    obtain ⟨_, _, c', _, _, _, -, -, hf', -, -, -, hown2, -⟩ := Cond.laysFinal_spec hlay
    have e1 : c' = cf := by have := hi.symm.trans hf'; simp at this; exact this.1.symm
    rw [hdecl] at hown2
    rw [← e1]; exact Option.some.inj (hown.symm.trans hown2)
  have h6 := u_fits hfc hkC hkind (Or.inr hlay) hi hd hn hfit
  refine W.putFinK hx hb hown (hts _ hq) hi hst hcf hin2 (by rw [q2]; exact h6) q1 q3 (by rw [hsl]; exact k2_hasslot (q4 j hj)) rfl rfl hdg fun H1 e1 e2 e3 => ?_
  rw [hsl] at e1
  exact k H1 _ ls (hR.put he ⟨_, hc, t_OB.to (V := updV (vp_V fs) j v) ⟨_, e1, q2, q3, t_set q4 hap hj v⟩ (fun x _ => vp_updV_set hl9 v x)⟩ e3) (hS.put e2 e3 (hR.2.2 kk (by rw [he]; exact fun q => by cases q))) hL
theorem n_putN (hC : nC K cc nL own ret rm) {a kk ci index N : Nat} {ref C host : String} {T : u_T} {fs : List Value} {v : Value} {ty : FieldType} (hin : ∀ w ∈ u_ws C T N, w ∈ lw_all) (ty0 : Nat → FieldType) (hty : ∀ k, k < N → parseFieldDescriptor (T k).2.2.1 = some (ty0 k)) (hnm : ∀ a, a < N → ∀ b, b < N → a ≠ b → (T a).2.1 ≠ (T b).2.1) (j : Nat) (hq : (own, index, ref, (T j).2.1, (T j).2.2.1, host) ∈ nWF) (hdg : decode cc pc = .ok (.putfield index, 3)) (hk : na kk = a) (he : h kk = some (.inr (ci, fs))) (hc : nCl[ci]? = some (C, T, N)) (hj : j < N) (hr : (T j).1 = ref) (hfin : (T j).2.2.2 = false) (hd : parseFieldDescriptor (T j).2.2.1 = some ty) (hn : narrow ty v = v) (hfit : fits ty v = true) (hl9 : j < fs.length)
    (k : WN K na (nup h kk (.inr (ci, fs.set j v))) cells slots Q (pc + 3) L (st)) : WN K na h cells slots Q (pc) L (v :: .ref a :: st) := by
  obtain ⟨p, l, e, R, s, m, args, below, meth, c, G, sz⟩ := K
  obtain ⟨hx, hb, hml, hown, hts, hK, hX, hZ, hsz, hlk, hrt, hRm, hl⟩ := hC
  intro H locs ls hR hS hL
  subst hk
  subst hr
  have hap := va_apart (own := own) hts hin ty0 hty hnm hK hc
  obtain ⟨r2, h1, cell, q1, q2, q3, q4⟩ := hR.P1 he 0 _ rfl
  have hr2 : r2 = (C, T, N) := Option.some.inj (h1.symm.trans hc)
  subst hr2
  obtain ⟨hS2, hfc, kC, hkC, hkind⟩ := hK.1 ci _ hc
  obtain ⟨cf, kf, fi, f, hi, hsl⟩ := hS2 j hj
  have hlay := hts _ (hin _ (u_in_lay hj))
  unfold u_lay at hlay
  rw [if_neg (by rw [hfin]; decide)] at hlay
  have hst := (u_facts hfc hkC (u_lays hts hin hj) hi).1
  have h6 := u_store hfc hkC hkind hlay hi hd hn hfit
  refine va_WputK hx hb (f := f) hown (va_Nw.use rfl (hX.1 _ hq)) hi hst (by rw [q2]; exact h6) q1 q3 (by rw [hsl]; exact k2_hasslot (q4 j hj)) rfl rfl hdg fun H1 e1 e2 e3 => ?_
  rw [hsl] at e1
  exact k H1 _ ls (hR.put he ⟨_, hc, t_OB.to (V := updV (vp_V fs) j v) ⟨_, e1, q2, q3, t_set q4 hap hj v⟩ (fun x _ => vp_updV_set hl9 v x)⟩ e3) (hS.put e2 e3 (hR.2.2 kk (by rw [he]; exact fun q => by cases q))) hL
theorem n_new (hC : nC K cc nL own ret rm) {ci index N : Nat} {C : String} {T : u_T} {fs : List Value} (hin : ∀ w ∈ u_ws C T N, w ∈ lw_all) (ty : Nat → FieldType) (hty : ∀ k, k < N → parseFieldDescriptor (T k).2.2.1 = some (ty k)) (h1 : Cond.classLink own index C ∈ lw_all) (h2 : Cond.instantiable C N ∈ lw_all) (h3 : Cond.initialized C ∈ lw_all) (hdg : decode cc pc = .ok (.new index, 3)) (kk : Nat) (hk : h kk = none) (hc : nCl[ci]? = some (C, T, N)) (hfs : ∀ j, j < N → defaultValue (ty j) = vp_V fs j) (hce : cells + 1 ≤ rm.cells) (hsl : slots + N ≤ rm.slots)
    (k : ∀ q : Nat, WN K (nua na kk q) (nup h kk (.inr (ci, fs))) (cells + 1) (slots + N) Q (pc + 3) L (.ref q :: st)) : WN K na h cells slots Q (pc) L (st) := by
  obtain ⟨p, l, e, R, s, m, args, below, meth, c, G, sz⟩ := K
  obtain ⟨hx, hb, hml, hown, hts, hK, hX, hZ, hsz, hlk, hrt, hRm, hl⟩ := hC
  intro H locs ls hR hS hL
  subst hRm
  have hKn := hK.1 ci _ hc
  refine W.newcK hx hb hown (hts _ h1) (hts _ h2) (hts _ h3) rfl hdg hce hsl hKn.2.1 rfl fun H1 kC hkC e1 z1 o1 => ?_
  refine k H.size H1 locs ls (hR.push hk (Nat.le_refl _) (Nat.le_trans hsz hS.1) ⟨_, hc, (u_born ty hts hin hKn hkC e1 hty).to hfs⟩ o1) ⟨Nat.le_trans hS.1 (by omega), fun x h1 h2 => (o1 x (Nat.lt_of_lt_of_le h1 hS.1)).trans (hS.2.1 x h1 h2), hS.2.2⟩ hL
theorem n_newarr (hC : nC K cc nL own ret rm) {atype : ArrayType} {t N : Nat} {n : Int32} {a0 : vp_A} (h1 : Cond.arrayClass (newarray.typeOf atype) ∈ lw_all) (ht : ∀ d : Nat → ClassId, (nT d)[t]? = some (d t, newarray.typeOf atype)) (hdg : decode cc pc = .ok (.newarray atype, 2)) (kk : Nat) (hk : h kk = none) (ha : ∀ cA : ClassId, vp_cell cA a0 = arrV cA N (fun _ => defaultValue (newarray.typeOf atype))) (hn : ¬ n < 0) (hN : n.toNatClampNeg = N) (hbytes : N * componentBytes (newarray.typeOf atype) ≤ 536870912) (hce : cells + 1 ≤ rm.cells) (hsl : slots + N ≤ rm.slots)
    (k : ∀ q : Nat, WN K (nua na kk q) (nup h kk (.inl (t, a0))) (cells + 1) (slots + N) Q (pc + 2) L (.ref q :: st)) : WN K na h cells slots Q (pc) L (.int n :: st) := by
  obtain ⟨p, l, e, R, s, m, args, below, meth, c, G, sz⟩ := K
  obtain ⟨hx, hb, hml, hown, hts, hK, hX, hZ, hsz, hlk, hrt, hRm, hl⟩ := hC
  intro H locs ls hR hS hL
  subst hRm
  refine va_newaK hx hb (hts _ h1) rfl hdg rfl hn hN hbytes hce hsl rfl fun H1 cA e1 z1 o1 hAr hNm => ?_
  have hcA : cA = G.2 t := by
    have q := (hK.2 t _ (ht G.2)).2
    have q2 : s.vm.findClass ("[" ++ (newarray.typeOf atype).toString) = some (G.2 t) := by cases atype <;> exact q
    exact Option.some.inj (hNm.symm.trans q2)
  subst hcA
  refine k H.size H1 locs ls (hR.push hk (Nat.le_refl _) (Nat.le_trans hsz hS.1) ?_ o1) ⟨Nat.le_trans hS.1 (by omega), fun x h1 h2 => (o1 x (Nat.lt_of_lt_of_le h1 hS.1)).trans (hS.2.1 x h1 h2), hS.2.2⟩ hL
  show H1[H.size]? = some (vp_cell _ _)
  rw [ha]
  exact e1
theorem n_anewarr (hC : nC K cc nL own ret rm) {index t N : Nat} {C : String} {n : Int32} (t0 : Nat) (h1 : Cond.classLink own index C ∈ lw_all) (ho : C ∈ nWO) (ht : ∀ d : Nat → ClassId, (nT d)[t0]? = some (d t, .object C)) (hdg : decode cc pc = .ok (.anewarray index, 3)) (kk : Nat) (hk : h kk = none) (hn : ¬ n < 0) (hN : n.toNatClampNeg = N) (hbytes : N * 4 ≤ 536870912) (hce : cells + 1 ≤ rm.cells) (hsl : slots + N ≤ rm.slots)
    (k : ∀ q : Nat, WN K (nua na kk q) (nup h kk (.inl (t, n.toNatClampNeg, .inr (.inr (.inr (.inr (fun _ => none))))))) (cells + 1) (slots + N) Q (pc + 3) L (.ref q :: st)) : WN K na h cells slots Q (pc) L (.int n :: st) := by
  obtain ⟨p, l, e, R, s, m, args, below, meth, c, G, sz⟩ := K
  obtain ⟨hx, hb, hml, hown, hts, hK, hX, hZ, hsz, hlk, hrt, hRm, hl⟩ := hC
  intro H locs ls hR hS hL
  subst hRm
  subst hN
  refine W.anew hx hb hown (hts _ h1) (va_AO.use (hX.2.2.2.2.1 _ ho)) rfl hdg rfl hn hbytes hce hsl fun cA kA comp f1 f2 f3 f4 => ?_
  have hcA : cA = G.2 t := by
    obtain ⟨kA2, comp2, -, -, -, q⟩ := (hK.2 t0 _ (ht G.2)).2
    exact Option.some.inj (f1.symm.trans q)
  subst hcA
  generalize hH1 : H.push ({ cls := G.2 t, slots := Array.replicate n.toNatClampNeg .null, vm := .none } : Cell) = H1
  have z1 : H1.size = H.size + 1 := by rw [← hH1, Array.size_push]
  have e1 : H1[H.size]? = some (arrV (G.2 t) n.toNatClampNeg (fun _ => .null)) := by rw [← hH1, Array.getElem?_push_size, ← arrV_new]
  have o1 : ∀ q : Nat, q < H.size → H1[q]? = H[q]? := fun q hq => by rw [← hH1, Array.getElem?_push, if_neg (Nat.ne_of_lt hq)]
  refine k H.size H1 locs ls (hR.push hk (Nat.le_refl _) (Nat.le_trans hsz hS.1) ?_ o1) ⟨Nat.le_trans hS.1 (by omega), fun x h1 h2 => (o1 x (Nat.lt_of_lt_of_le h1 hS.1)).trans (hS.2.1 x h1 h2), hS.2.2⟩ hL
  show H1[H.size]? = some (vp_cell _ _)
  rw [vp_cell_q]
  exact e1
theorem n_castY (hC : nC K cc nL own ret rm) {a kk ci index : Nat} {nm : String} {fs : List Value} {rC : vw_C} (hq : Cond.classLink own index nm ∈ lw_all) (hdg : decode cc pc = .ok (.checkcast index, 3)) (hk : na kk = a) (he : h kk = some (.inr (ci, fs))) (hc : nCl[ci]? = some rC) (hy : rC.1 = nm ∨ (rC.1, nm) ∈ nWC)
    (k : WN K na h cells slots Q (pc + 3) L (.ref a :: st)) : WN K na h cells slots Q (pc) L (.ref a :: st) := by
  obtain ⟨p, l, e, R, s, m, args, below, meth, c, G, sz⟩ := K
  obtain ⟨hx, hb, hml, hown, hts, hK, hX, hZ, hsz, hlk, hrt, hRm, hl⟩ := hC
  intro H locs ls hR hS hL
  subst hk
  have hrv := va_recv hK (hR.P1 he) hc (q0 := 0) rfl
  rcases hy with q | q
  · exact va_castS hx hb hown (hts _ hq) (by rw [← q]; exact (hK.1 ci rC hc).2) (by rw [← q]; exact hrv) hdg (k H locs ls hR hS hL)
  · exact va_castY hx hb hown (hts _ hq) (hX.2.2.1 _ q) hrv hdg (k H locs ls hR hS hL)
theorem n_instY (hC : nC K cc nL own ret rm) {a kk ci index : Nat} {nm : String} {fs : List Value} {rC : vw_C} (hq : Cond.classLink own index nm ∈ lw_all) (hdg : decode cc pc = .ok (.instanceof index, 3)) (hk : na kk = a) (he : h kk = some (.inr (ci, fs))) (hc : nCl[ci]? = some rC) (hy : rC.1 = nm ∨ (rC.1, nm) ∈ nWC)
    (k : WN K na h cells slots Q (pc + 3) L (.int 1 :: st)) : WN K na h cells slots Q (pc) L (.ref a :: st) := by
  obtain ⟨p, l, e, R, s, m, args, below, meth, c, G, sz⟩ := K
  obtain ⟨hx, hb, hml, hown, hts, hK, hX, hZ, hsz, hlk, hrt, hRm, hl⟩ := hC
  intro H locs ls hR hS hL
  subst hk
  have hrv := va_recv hK (hR.P1 he) hc (q0 := 0) rfl
  rcases hy with q | q
  · exact va_instS hx hb hown (hts _ hq) (by rw [← q]; exact (hK.1 ci rC hc).2) (by rw [← q]; exact hrv) hdg (k H locs ls hR hS hL)
  · exact va_instY hx hb hown (hts _ hq) (hX.2.2.1 _ q) hrv hdg (k H locs ls hR hS hL)
theorem n_instNo (hC : nC K cc nL own ret rm) {a kk ci index : Nat} {nm : String} {fs : List Value} {rC : vw_C} (hq : Cond.classLink own index nm ∈ lw_all) (hdg : decode cc pc = .ok (.instanceof index, 3)) (hk : na kk = a) (he : h kk = some (.inr (ci, fs))) (hc : nCl[ci]? = some rC) (hy : (rC.1, nm) ∈ nWN)
    (k : WN K na h cells slots Q (pc + 3) L (.int 0 :: st)) : WN K na h cells slots Q (pc) L (.ref a :: st) := by
  obtain ⟨p, l, e, R, s, m, args, below, meth, c, G, sz⟩ := K
  obtain ⟨hx, hb, hml, hown, hts, hK, hX, hZ, hsz, hlk, hrt, hRm, hl⟩ := hC
  intro H locs ls hR hS hL
  subst hk
  have hrv := va_recv hK (hR.P1 he) hc (q0 := 0) rfl
  exact va_instNo hx hb hown (hts _ hq) (hX.2.2.2.2.2.1 _ hy) hrv hdg (k H locs ls hR hS hL)
theorem n_castNull (hC : nC K cc nL own ret rm) {index : Nat} (hdg : decode cc pc = .ok (.checkcast index, 3))
    (k : WN K na h cells slots Q (pc + 3) L (.null :: st)) : WN K na h cells slots Q (pc) L (.null :: st) := by
  obtain ⟨p, l, e, R, s, m, args, below, meth, c, G, sz⟩ := K
  obtain ⟨hx, hb, hml, hown, hts, hK, hX, hZ, hsz, hlk, hrt, hRm, hl⟩ := hC
  intro H locs ls hR hS hL
  exact lv_castN hx hb hdg (k H locs ls hR hS hL)
theorem n_instNull (hC : nC K cc nL own ret rm) {index : Nat} (hdg : decode cc pc = .ok (.instanceof index, 3))
    (k : WN K na h cells slots Q (pc + 3) L (.int 0 :: st)) : WN K na h cells slots Q (pc) L (.null :: st) := by
  obtain ⟨p, l, e, R, s, m, args, below, meth, c, G, sz⟩ := K
  obtain ⟨hx, hb, hml, hown, hts, hK, hX, hZ, hsz, hlk, hrt, hRm, hl⟩ := hC
  intro H locs ls hR hS hL
  exact lv_instN hx hb hdg (k H locs ls hR hS hL)
end NROW
