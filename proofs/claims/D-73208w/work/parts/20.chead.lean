def c1_len : Nat → Nat := fun k => match k with
  | 0 => 6
  | 2 => 240
  | 5 => 320
  | 6 => 5
  | 8 => 480
  | 10 => 16
  | 11 => 16
  | 12 => 16
  | 13 => 16
  | 21 => 999
  | 22 => 999
  | 23 => 5
  | 24 => 4
  | 25 => 4
  | 26 => 4
  | 29 => 120
  | 30 => 120
  | 35 => 999
  | 36 => 999
  | _ => 0
abbrev cwEls : List FieldType := [.int, .byte, .boolean, .object "WideMap$Node", .object "WideMap$Token", .object "java/lang/String"]
/-- the texts: pseudo field, class, pool entry, text -/
abbrev cwStr : List (Nat × String × Nat × String) := [(100, "WideMap", 20, "put"), (101, "WideMap", 22, "del"), (102, "WideMap", 24, "add"), (103, "WideMap", 26, "cut"), (104, "WideMap", 28, "inc"), (105, "WideMap", 30, "snap"), (106, "WideMap", 110, ""), (107, "WideMap$Leaf", 64, ""), (108, "WideMap$Leaf", 66, " ")]
abbrev cwFw : List (String × MethodName × MethodName) := [("WideMap$Inner", ⟨"WideMap$Node", "allOf", "(LWideMap$Node;)V"⟩, ⟨"WideMap$Inner", "allOf", "(LWideMap$Node;)V"⟩),
  ("WideMap$Inner", ⟨"WideMap$Node", "copied", "(LWideMap$Token;)LWideMap$Node;"⟩, ⟨"WideMap$Inner", "copied", "(LWideMap$Token;)LWideMap$Node;"⟩),
  ("WideMap$Inner", ⟨"WideMap$Node", "firstOf", "(LWideMap$Node;)V"⟩, ⟨"WideMap$Inner", "firstOf", "(LWideMap$Node;)V"⟩),
  ("WideMap$Inner", ⟨"WideMap$Node", "isLeaf", "()Z"⟩, ⟨"WideMap$Inner", "isLeaf", "()Z"⟩),
  ("WideMap$Inner", ⟨"WideMap$Node", "isStamped", "(I)Z"⟩, ⟨"WideMap$Marked", "isStamped", "(I)Z"⟩),
  ("WideMap$Inner", ⟨"WideMap$Node", "keyAt", "(I)I"⟩, ⟨"WideMap$Inner", "keyAt", "(I)I"⟩),
  ("WideMap$Inner", ⟨"WideMap$Node", "kid", "(I)LWideMap$Node;"⟩, ⟨"WideMap$Inner", "kid", "(I)LWideMap$Node;"⟩),
  ("WideMap$Inner", ⟨"WideMap$Node", "lastOf", "(LWideMap$Node;)V"⟩, ⟨"WideMap$Inner", "lastOf", "(LWideMap$Node;)V"⟩),
  ("WideMap$Inner", ⟨"WideMap$Node", "lays", "(LWideMap$Token;III)LWideMap$Node;"⟩, ⟨"WideMap$Inner", "lays", "(LWideMap$Token;III)LWideMap$Node;"⟩),
  ("WideMap$Inner", ⟨"WideMap$Node", "low", "()I"⟩, ⟨"WideMap$Inner", "low", "()I"⟩),
  ("WideMap$Inner", ⟨"WideMap$Node", "many", "()I"⟩, ⟨"WideMap$Marked", "many", "()I"⟩),
  ("WideMap$Inner", ⟨"WideMap$Node", "shows", "(Ljava/lang/StringBuilder;)V"⟩, ⟨"WideMap$Inner", "shows", "(Ljava/lang/StringBuilder;)V"⟩),
  ("WideMap$Inner", ⟨"WideMap$Node", "stamp", "(I)V"⟩, ⟨"WideMap$Marked", "stamp", "(I)V"⟩),
  ("WideMap$Inner", ⟨"WideMap$Node", "takes", "(LWideMap$Token;II)V"⟩, ⟨"WideMap$Inner", "takes", "(LWideMap$Token;II)V"⟩),
  ("WideMap$Inner", ⟨"WideMap$Node", "token", "()LWideMap$Token;"⟩, ⟨"WideMap$Marked", "token", "()LWideMap$Token;"⟩),
  ("WideMap$Inner", ⟨"WideMap$Node", "valueAt", "(I)I"⟩, ⟨"WideMap$Inner", "valueAt", "(I)I"⟩),
  ("WideMap$Leaf", ⟨"WideMap$Node", "allOf", "(LWideMap$Node;)V"⟩, ⟨"WideMap$Leaf", "allOf", "(LWideMap$Node;)V"⟩),
  ("WideMap$Leaf", ⟨"WideMap$Node", "copied", "(LWideMap$Token;)LWideMap$Node;"⟩, ⟨"WideMap$Leaf", "copied", "(LWideMap$Token;)LWideMap$Node;"⟩),
  ("WideMap$Leaf", ⟨"WideMap$Node", "firstOf", "(LWideMap$Node;)V"⟩, ⟨"WideMap$Leaf", "firstOf", "(LWideMap$Node;)V"⟩),
  ("WideMap$Leaf", ⟨"WideMap$Node", "isLeaf", "()Z"⟩, ⟨"WideMap$Leaf", "isLeaf", "()Z"⟩),
  ("WideMap$Leaf", ⟨"WideMap$Node", "isStamped", "(I)Z"⟩, ⟨"WideMap$Marked", "isStamped", "(I)Z"⟩),
  ("WideMap$Leaf", ⟨"WideMap$Node", "keyAt", "(I)I"⟩, ⟨"WideMap$Leaf", "keyAt", "(I)I"⟩),
  ("WideMap$Leaf", ⟨"WideMap$Node", "kid", "(I)LWideMap$Node;"⟩, ⟨"WideMap$Leaf", "kid", "(I)LWideMap$Node;"⟩),
  ("WideMap$Leaf", ⟨"WideMap$Node", "lastOf", "(LWideMap$Node;)V"⟩, ⟨"WideMap$Leaf", "lastOf", "(LWideMap$Node;)V"⟩),
  ("WideMap$Leaf", ⟨"WideMap$Node", "lays", "(LWideMap$Token;III)LWideMap$Node;"⟩, ⟨"WideMap$Leaf", "lays", "(LWideMap$Token;III)LWideMap$Node;"⟩),
  ("WideMap$Leaf", ⟨"WideMap$Node", "low", "()I"⟩, ⟨"WideMap$Leaf", "low", "()I"⟩),
  ("WideMap$Leaf", ⟨"WideMap$Node", "many", "()I"⟩, ⟨"WideMap$Marked", "many", "()I"⟩),
  ("WideMap$Leaf", ⟨"WideMap$Node", "shows", "(Ljava/lang/StringBuilder;)V"⟩, ⟨"WideMap$Leaf", "shows", "(Ljava/lang/StringBuilder;)V"⟩),
  ("WideMap$Leaf", ⟨"WideMap$Node", "stamp", "(I)V"⟩, ⟨"WideMap$Marked", "stamp", "(I)V"⟩),
  ("WideMap$Leaf", ⟨"WideMap$Node", "takes", "(LWideMap$Token;II)V"⟩, ⟨"WideMap$Leaf", "takes", "(LWideMap$Token;II)V"⟩),
  ("WideMap$Leaf", ⟨"WideMap$Node", "token", "()LWideMap$Token;"⟩, ⟨"WideMap$Marked", "token", "()LWideMap$Token;"⟩),
  ("WideMap$Leaf", ⟨"WideMap$Node", "valueAt", "(I)I"⟩, ⟨"WideMap$Leaf", "valueAt", "(I)I"⟩),
  ("java/lang/String", ⟨"java/lang/CharSequence", "charAt", "(I)C"⟩, ⟨"java/lang/String", "charAt", "(I)C"⟩),
  ("java/lang/String", ⟨"java/lang/CharSequence", "length", "()I"⟩, ⟨"java/lang/String", "length", "()I"⟩)]
abbrev cwFd : List (String × MethodName × MethodName) := [("WideMap$Inner", ⟨"WideMap$Node", "counts", "(IILWideMap$Token;)I"⟩, ⟨"WideMap$Node", "counts", "(IILWideMap$Token;)I"⟩),
  ("WideMap$Inner", ⟨"WideMap$Node", "edited", "(LWideMap$Token;)LWideMap$Node;"⟩, ⟨"WideMap$Node", "edited", "(LWideMap$Token;)LWideMap$Node;"⟩),
  ("WideMap$Inner", ⟨"WideMap$Node", "hasIn", "(LWideMap$Node;)Z"⟩, ⟨"WideMap$Node", "hasIn", "(LWideMap$Node;)Z"⟩),
  ("WideMap$Inner", ⟨"WideMap$Node", "isOf", "(LWideMap$Token;)Z"⟩, ⟨"WideMap$Node", "isOf", "(LWideMap$Token;)Z"⟩),
  ("WideMap$Inner", ⟨"WideMap$Node", "kidFor", "(I)I"⟩, ⟨"WideMap$Node", "kidFor", "(I)I"⟩),
  ("WideMap$Inner", ⟨"WideMap$Node", "levels", "()I"⟩, ⟨"WideMap$Node", "levels", "()I"⟩),
  ("WideMap$Leaf", ⟨"WideMap$Node", "counts", "(IILWideMap$Token;)I"⟩, ⟨"WideMap$Node", "counts", "(IILWideMap$Token;)I"⟩),
  ("WideMap$Leaf", ⟨"WideMap$Node", "edited", "(LWideMap$Token;)LWideMap$Node;"⟩, ⟨"WideMap$Node", "edited", "(LWideMap$Token;)LWideMap$Node;"⟩),
  ("WideMap$Leaf", ⟨"WideMap$Node", "hasIn", "(LWideMap$Node;)Z"⟩, ⟨"WideMap$Node", "hasIn", "(LWideMap$Node;)Z"⟩),
  ("WideMap$Leaf", ⟨"WideMap$Node", "isOf", "(LWideMap$Token;)Z"⟩, ⟨"WideMap$Node", "isOf", "(LWideMap$Token;)Z"⟩),
  ("WideMap$Leaf", ⟨"WideMap$Node", "kidFor", "(I)I"⟩, ⟨"WideMap$Node", "kidFor", "(I)I"⟩),
  ("WideMap$Leaf", ⟨"WideMap$Node", "levels", "()I"⟩, ⟨"WideMap$Node", "levels", "()I"⟩)]
abbrev cwPv : List MethodName := [⟨"java/lang/AbstractStringBuilder", "appendNull", "()Ljava/lang/AbstractStringBuilder;"⟩, ⟨"java/lang/AbstractStringBuilder", "ensureCapacityInternal", "(I)V"⟩, ⟨"java/lang/AbstractStringBuilder", "inflate", "()V"⟩, ⟨"java/lang/AbstractStringBuilder", "inflateIfNeededFor", "(Ljava/lang/String;)V"⟩, ⟨"java/lang/AbstractStringBuilder", "newCapacity", "(I)I"⟩, ⟨"java/lang/AbstractStringBuilder", "putStringAt", "(ILjava/lang/String;)V"⟩, ⟨"java/lang/Throwable", "fillInStackTrace", "(I)Ljava/lang/Throwable;"⟩]
abbrev cwCa : List (String × String) := [("WideMap", "java/lang/Object"), ("WideMap$Fault", "WideMap$Fault"), ("WideMap$Fault", "java/lang/Object"), ("WideMap$Inner", "WideMap$Node"), ("WideMap$Inner", "java/lang/Object"), ("WideMap$Leaf", "WideMap$Node"), ("WideMap$Leaf", "java/lang/Object"), ("WideMap$Token", "java/lang/Object"), ("WideMapModel", "java/lang/Object"), ("[B", "java/lang/Cloneable"), ("java/lang/String", "java/lang/CharSequence"), ("java/lang/String", "java/lang/Object"), ("java/lang/StringBuilder", "java/lang/CharSequence"), ("java/lang/StringBuilder", "java/lang/Object"), ("java/lang/System$2", "java/lang/Object"), ("java/lang/System$2", "jdk/internal/access/JavaLangAccess"), ("java/lang/Throwable", "java/lang/Object"), ("java/util/NoSuchElementException", "java/lang/Object"), ("java/util/NoSuchElementException", "java/util/NoSuchElementException"), ("jdk/internal/misc/Unsafe", "java/lang/Object")]
abbrev cwDe : List MethodName := [⟨"java/lang/Exception", "<init>", "()V"⟩, ⟨"java/lang/Exception", "<init>", "(Ljava/lang/String;)V"⟩, ⟨"java/lang/RuntimeException", "<init>", "()V"⟩, ⟨"java/lang/RuntimeException", "<init>", "(Ljava/lang/String;)V"⟩, ⟨"java/lang/Throwable", "<init>", "()V"⟩, ⟨"java/lang/Throwable", "<init>", "(Ljava/lang/String;)V"⟩]
