/-! the world's classes, array types, statics, literals: by places -/
def g_cl : List vw_C := [(RX1, TX1, 4), (RX2, TX2, 7), (RX3, TX3, 4), (RX4, TX4, 2), (RX5, TX5, 3), (RX6, TX6, 31), (RX7, TX7, 6), (RX8, TX8, 2), (RX9, TX9, 10), (RX10, TX10, 5), (RX11, TX11, 7), (RX12, TX12, 4), (RX13, TX13, 3), (RX14, TX14, 7), (RJ1, TJ1, 3), (RJ3, TJ3, 4), (RJ7, TJ7, 3), (RJ9, TJ9, 1), (RJ4, TJ4, 4)]
/-- array types that are made: 0 int, 1 long, 2 boolean, 3 byte, 4 Object, 5 Line, 6 Replica, 7 Line[], 8 boolean[] -/
def g_ft : List FieldType := [.int, .long, .boolean, .byte, .object "java/lang/Object", .object "SharedSheet$Line", .object "SharedSheet$Replica", .array (.object "SharedSheet$Line"), .array .boolean]
/-- all array types: beyond these, those of arrays that were there before: 9 Integer's cache, 10 DigitTens, 11 DigitOnes, 12 the script, 13 ArrayList's empty array -/
def g_fa : List FieldType := g_ft ++ [.object "java/lang/Integer", .byte, .byte, .int, .object "java/lang/Object"]
def g_nots : List Cond := [.not (.castable "java/lang/IllegalStateException" "java/lang/IndexOutOfBoundsException"), .not (.castable "java/lang/IllegalArgumentException" "java/lang/IndexOutOfBoundsException"), .not (.castable "java/lang/IllegalStateException" "java/lang/IllegalArgumentException")]
/-- statics: class, name, descriptor, the place of the address that they hold, or a value -/
def g_st : List (String × String × String × (Nat ⊕ Value)) := [("SharedSheet", "NEVER", "LSharedSheet$Stamp;", .inl 0), ("SharedSheet", "BEGINNING", "LSharedSheet$Stamp;", .inl 1), ("java/util/ArrayList", "DEFAULTCAPACITY_EMPTY_ELEMENTDATA", "[Ljava/lang/Object;", .inl 2), ("java/lang/Integer$IntegerCache", "cache", "[Ljava/lang/Integer;", .inl 3), ("java/lang/Integer", "DigitTens", "[B", .inl 4), ("java/lang/Integer", "DigitOnes", "[B", .inl 5), ("java/lang/Integer$IntegerCache", "high", "I", .inr (.int 127)), ("java/lang/String", "COMPACT_STRINGS", "Z", .inr (.int 1))]
def g_lits : List (String × Nat × String × Nat) := [("SharedSheet$Fault", 1, "fault", 6), ("SharedSheet$Failure", 1, "error", 7), ("SharedSheet$View", 218, "S(", 8)]
def g_mir : Nat := 9
