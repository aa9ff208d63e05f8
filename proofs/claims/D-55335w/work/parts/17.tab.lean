/-! the tables of sites (printed by wip/tools/gen_tab.py) -/
set_option maxRecDepth 100000
/-- what varies from run to run: ids and slots, array classes, base, launch, strings, statics that are references, mirrors -/
abbrev XT : Type := va_G × (Nat → ClassId) × Nat × Launch × (Nat → Nat) × (Nat → Option Nat) × (Nat → Nat)
def cn : Nat → String
  | 0 => "java/util/AbstractCollection"
  | 1 => "java/util/ArrayDeque"
  | 2 => "java/lang/AbstractStringBuilder"
  | 3 => "java/lang/StringBuilder"
  | 4 => "java/lang/String"
  | 5 => "java/lang/StringUTF16"
  | 6 => "java/util/AbstractList"
  | 7 => "java/util/ArrayList"
  | 8 => "jdk/internal/util/ArraysSupport"
  | 9 => "java/lang/Math"
  | 10 => "java/util/Arrays"
  | 11 => "java/util/LinkedList$Node"
  | 12 => "java/util/ArrayList$Itr"
  | 13 => "java/lang/Throwable"
  | 14 => "java/lang/Exception"
  | 15 => "java/lang/RuntimeException"
  | 16 => "java/lang/IndexOutOfBoundsException"
  | 17 => "jdk/internal/util/Preconditions"
  | 18 => "java/lang/StringLatin1"
  | 19 => "java/lang/Number"
  | 20 => "java/lang/Integer"
  | 21 => "java/lang/IllegalArgumentException"
  | 22 => "java/util/AbstractList$Itr"
  | 23 => "java/util/ArrayList$ListItr"
  | 24 => "java/util/LinkedList$ListItr"
  | 25 => "java/util/NoSuchElementException"
  | 26 => "java/util/Objects"
  | 27 => "java/lang/Record"
  | 28 => "java/lang/IllegalStateException"
  | 29 => "java/lang/UnsupportedOperationException"
  | 30 => "java/lang/ArrayIndexOutOfBoundsException"
  | 31 => "java/util/AbstractSequentialList"
  | 32 => "java/util/LinkedList"
  | 33 => "java/lang/ArithmeticException"
  | 34 => "java/lang/StringIndexOutOfBoundsException"
  | 35 => "java/lang/Character"
  | 36 => "java/lang/Object"
  | 37 => "java/lang/System$2"
  | 38 => "TheatreSagaLaw"
  | 39 => "TheatreSaga"
  | 40 => "TheatreSaga$Theatre"
  | 41 => "TheatreSaga$Town"
  | 42 => "TheatreSagaModel"
  | 43 => "TheatreSaga$Theatre$Tour"
  | 44 => "TheatreSaga$Deed"
  | 45 => "TheatreSaga$Refusal"
  | 46 => "TheatreSaga$Step"
  | 47 => "TheatreSaga$Walk"
  | 48 => "TheatreSaga$1Choice"
  | 49 => "TheatreSaga$Parser"
  | 50 => "TheatreSaga$FaultException"
  | _ => ""
def CL : List vw_C := [("TheatreSaga", TX1, 8), ("TheatreSaga$Theatre", TX2, 10), ("TheatreSaga$Town", TX3, 4), ("TheatreSagaModel", TX4, 19), ("TheatreSaga$Theatre$Tour", TX5, 12), ("TheatreSaga$Deed", TX6, 2), ("TheatreSaga$Refusal", TX7, 8), ("TheatreSaga$Step", TX8, 4), ("TheatreSaga$Walk", TX9, 4), ("TheatreSaga$1Choice", TX10, 5), ("TheatreSaga$Parser", TX11, 2), ("TheatreSaga$FaultException", TX12, 7), ("java/util/ArrayDeque", TJ1, 3), ("java/lang/StringBuilder", TJ3, 4), ("java/lang/String", TJ4, 4), ("java/util/ArrayList", TJ7, 3), ("java/util/ArrayList$Itr", TJ12, 4), ("java/util/LinkedList", TJ32, 4), ("java/util/LinkedList$Node", TJ11, 3), ("java/util/LinkedList$ListItr", TJ24, 5), ("java/lang/Integer", TJ20, 1), ("java/lang/IllegalArgumentException", fun _ => ("", "", "", false), 0), ("java/lang/IndexOutOfBoundsException", fun _ => ("", "", "", false), 0), ("java/lang/IllegalStateException", fun _ => ("", "", "", false), 0), ("java/util/NoSuchElementException", fun _ => ("", "", "", false), 0), ("java/lang/UnsupportedOperationException", fun _ => ("", "", "", false), 0), ("java/lang/ArithmeticException", fun _ => ("", "", "", false), 0)]
def NWs : List Cond := [(Jvm.Cond.fieldLinkNest "java/util/ArrayList$Itr" (28 : Nat) "java/util/ArrayList" "size" "I" "java/util/ArrayList"),
  (Jvm.Cond.fieldLinkNest "TheatreSaga$1Choice" (46 : Nat) "TheatreSaga$Town" "isShut" "Z" "TheatreSaga"),
  (Jvm.Cond.fieldLinkNest "TheatreSaga$Theatre" (152 : Nat) "TheatreSaga$Town" "isShut" "Z" "TheatreSaga"),
  (Jvm.Cond.fieldLinkNest "TheatreSaga$Theatre$Tour" (150 : Nat) "TheatreSaga$Town" "isShut" "Z" "TheatreSaga"),
  (Jvm.Cond.fieldLinkNest "TheatreSaga" (216 : Nat) "TheatreSaga$Town" "isShut" "Z" "TheatreSaga"),
  (Jvm.Cond.fieldLinkNest "TheatreSaga$1Choice" (54 : Nat) "TheatreSaga$Town" "dearness" "I" "TheatreSaga"),
  (Jvm.Cond.fieldLinkNest "TheatreSaga$Theatre" (108 : Nat) "TheatreSaga$Town" "dearness" "I" "TheatreSaga"),
  (Jvm.Cond.fieldLinkNest "TheatreSaga" (220 : Nat) "TheatreSaga$Town" "dearness" "I" "TheatreSaga"),
  (Jvm.Cond.fieldLinkNest "TheatreSaga$Theatre$Tour" (164 : Nat) "TheatreSaga$Town" "paid" "I" "TheatreSaga"),
  (Jvm.Cond.fieldLinkNest "TheatreSaga" (227 : Nat) "TheatreSaga$Town" "paid" "I" "TheatreSaga"),
  (Jvm.Cond.fieldLinkNest "TheatreSaga$Deed" (69 : Nat) "TheatreSaga$Theatre" "tours" "Ljava/util/List;" "TheatreSaga"),
  (Jvm.Cond.fieldLinkNest "TheatreSaga" (104 : Nat) "TheatreSaga$Theatre" "tours" "Ljava/util/List;" "TheatreSaga"),
  (Jvm.Cond.fieldLinkNest "TheatreSaga$1Choice" (32 : Nat) "TheatreSaga$Theatre" "towns" "Ljava/util/List;" "TheatreSaga"),
  (Jvm.Cond.fieldLinkNest "TheatreSaga$Theatre$Tour" (127 : Nat) "TheatreSaga$Theatre" "towns" "Ljava/util/List;" "TheatreSaga"),
  (Jvm.Cond.fieldLinkNest "TheatreSaga" (211 : Nat) "TheatreSaga$Theatre" "towns" "Ljava/util/List;" "TheatreSaga"),
  (Jvm.Cond.fieldLinkNest "TheatreSaga" (336 : Nat) "TheatreSaga$Theatre" "hour" "I" "TheatreSaga"),
  (Jvm.Cond.fieldLinkNest "TheatreSaga$Theatre$Tour" (158 : Nat) "TheatreSaga$Theatre" "coins" "I" "TheatreSaga"),
  (Jvm.Cond.fieldLinkNest "TheatreSaga" (342 : Nat) "TheatreSaga$Theatre" "coins" "I" "TheatreSaga"),
  (Jvm.Cond.fieldLinkNest "TheatreSaga$Theatre$Tour" (161 : Nat) "TheatreSaga$Theatre" "paid" "I" "TheatreSaga"),
  (Jvm.Cond.fieldLinkNest "TheatreSaga" (345 : Nat) "TheatreSaga$Theatre" "paid" "I" "TheatreSaga"),
  (Jvm.Cond.fieldLinkNest "TheatreSaga$Theatre$Tour" (178 : Nat) "TheatreSaga$Theatre" "back" "I" "TheatreSaga"),
  (Jvm.Cond.fieldLinkNest "TheatreSaga" (346 : Nat) "TheatreSaga$Theatre" "back" "I" "TheatreSaga"),
  (Jvm.Cond.fieldLinkNest "TheatreSaga$Theatre$Tour" (172 : Nat) "TheatreSaga$Theatre" "brought" "I" "TheatreSaga"),
  (Jvm.Cond.fieldLinkNest "TheatreSaga" (348 : Nat) "TheatreSaga$Theatre" "brought" "I" "TheatreSaga"),
  (Jvm.Cond.fieldLinkNest "TheatreSaga" (351 : Nat) "TheatreSaga$Theatre" "lost" "I" "TheatreSaga"),
  (Jvm.Cond.fieldLinkNest "TheatreSaga$Theatre$Tour" (184 : Nat) "TheatreSaga$Theatre" "tries" "I" "TheatreSaga"),
  (Jvm.Cond.fieldLinkNest "TheatreSaga" (354 : Nat) "TheatreSaga$Theatre" "tries" "I" "TheatreSaga"),
  (Jvm.Cond.fieldLinkNest "TheatreSaga$Theatre$Tour" (187 : Nat) "TheatreSaga$Theatre" "failed" "I" "TheatreSaga"),
  (Jvm.Cond.fieldLinkNest "TheatreSaga" (357 : Nat) "TheatreSaga$Theatre" "failed" "I" "TheatreSaga"),
  (Jvm.Cond.fieldLinkNest "TheatreSaga$1Choice" (28 : Nat) "TheatreSaga" "theatre" "LTheatreSaga$Theatre;" "TheatreSaga"),
  (Jvm.Cond.fieldLinkNest "TheatreSaga$Parser" (17 : Nat) "TheatreSaga" "input" "Ljava/lang/StringBuilder;" "TheatreSaga"),
  (Jvm.Cond.fieldLinkNest "TheatreSaga" (140 : Nat) "TheatreSaga$Theatre$Tour" "limit" "I" "TheatreSaga"),
  (Jvm.Cond.fieldLinkNest "TheatreSaga" (143 : Nat) "TheatreSaga$Theatre$Tour" "steps" "Ljava/util/List;" "TheatreSaga"),
  (Jvm.Cond.fieldLinkNest "TheatreSaga" (181 : Nat) "TheatreSaga$Theatre$Tour" "prices" "[I" "TheatreSaga"),
  (Jvm.Cond.fieldLinkNest "TheatreSaga$Theatre" (143 : Nat) "TheatreSaga$Theatre$Tour" "how" "I" "TheatreSaga"),
  (Jvm.Cond.fieldLinkNest "TheatreSaga" (137 : Nat) "TheatreSaga$Theatre$Tour" "how" "I" "TheatreSaga"),
  (Jvm.Cond.fieldLinkNest "TheatreSaga$Theatre" (170 : Nat) "TheatreSaga$Theatre$Tour" "booked" "I" "TheatreSaga"),
  (Jvm.Cond.fieldLinkNest "TheatreSaga" (149 : Nat) "TheatreSaga$Theatre$Tour" "booked" "I" "TheatreSaga"),
  (Jvm.Cond.fieldLinkNest "TheatreSaga" (152 : Nat) "TheatreSaga$Theatre$Tour" "tried" "I" "TheatreSaga"),
  (Jvm.Cond.fieldLinkNest "TheatreSaga" (155 : Nat) "TheatreSaga$Theatre$Tour" "cause" "I" "TheatreSaga"),
  (Jvm.Cond.fieldLinkNest "TheatreSaga" (158 : Nat) "TheatreSaga$Theatre$Tour" "spent" "I" "TheatreSaga"),
  (Jvm.Cond.fieldLinkNest "TheatreSaga" (161 : Nat) "TheatreSaga$Theatre$Tour" "returned" "I" "TheatreSaga"),
  (Jvm.Cond.fieldLinkNest "TheatreSaga" (164 : Nat) "TheatreSaga$Theatre$Tour" "earned" "I" "TheatreSaga"),
  (Jvm.Cond.fieldLinkNest "TheatreSaga" (72 : Nat) "TheatreSaga$Refusal" "reason" "I" "TheatreSaga"),
  (Jvm.Cond.fieldLinkNest "TheatreSaga" (76 : Nat) "TheatreSaga$Refusal" "detail" "I" "TheatreSaga"),
  (Jvm.Cond.fieldLinkNest "TheatreSaga" (281 : Nat) "TheatreSaga$1Choice" "best" "I" "TheatreSaga"),
  (Jvm.Cond.fieldLinkNest "TheatreSaga" (392 : Nat) "TheatreSaga$FaultException" "position" "I" "TheatreSaga"),
  (Jvm.Cond.methodLinkNest "TheatreSaga$Walk" (38 : Nat) ({ cls := "TheatreSaga", name := "requireElement", desc := "(Z)V" } : Jvm.MethodName) "TheatreSaga"),
  (Jvm.Cond.methodLinkNest "TheatreSaga$Theatre" (81 : Nat) ({ cls := "TheatreSaga", name := "inRange", desc := "(III)Z" } : Jvm.MethodName) "TheatreSaga"),
  (Jvm.Cond.methodLinkNest "TheatreSaga$Theatre" (120 : Nat) ({ cls := "TheatreSaga", name := "require", desc := "(Z)V" } : Jvm.MethodName) "TheatreSaga"),
  (Jvm.Cond.methodLinkNest "TheatreSaga$Theatre" (123 : Nat) ({ cls := "TheatreSaga", name := "allow", desc := "(ZII)V" } : Jvm.MethodName) "TheatreSaga"),
  (Jvm.Cond.methodLinkNest "TheatreSaga$Deed" (21 : Nat) ({ cls := "TheatreSaga$Step", name := "<init>", desc := "(IIII)V" } : Jvm.MethodName) "TheatreSaga"),
  (Jvm.Cond.methodLinkNest "TheatreSaga$Theatre" (85 : Nat) ({ cls := "TheatreSaga", name := "requireIndex", desc := "(Z)V" } : Jvm.MethodName) "TheatreSaga"),
  (Jvm.Cond.methodLinkNest "TheatreSaga$Theatre" (137 : Nat) ({ cls := "TheatreSaga", name := "all", desc := "(I)I" } : Jvm.MethodName) "TheatreSaga"),
  (Jvm.Cond.methodLinkNest "TheatreSaga$Theatre$Tour" (69 : Nat) ({ cls := "TheatreSaga", name := "allow", desc := "(ZII)V" } : Jvm.MethodName) "TheatreSaga"),
  (Jvm.Cond.methodLinkNest "TheatreSaga$Town" (33 : Nat) ({ cls := "TheatreSaga", name := "all", desc := "(I)I" } : Jvm.MethodName) "TheatreSaga"),
  (Jvm.Cond.methodLinkNest "TheatreSaga$Theatre" (98 : Nat) ({ cls := "TheatreSaga", name := "price", desc := "(I)I" } : Jvm.MethodName) "TheatreSaga"),
  (Jvm.Cond.methodLinkNest "TheatreSaga$Theatre$Tour" (175 : Nat) ({ cls := "TheatreSaga$Theatre", name := "earn", desc := "(I)V" } : Jvm.MethodName) "TheatreSaga"),
  (Jvm.Cond.methodLinkNest "TheatreSaga" (380 : Nat) ({ cls := "TheatreSaga$Parser", name := "<init>", desc := "(LTheatreSaga;)V" } : Jvm.MethodName) "TheatreSaga"),
  (Jvm.Cond.methodLinkNest "TheatreSaga$Parser" (33 : Nat) ({ cls := "TheatreSaga", name := "inRange", desc := "(III)Z" } : Jvm.MethodName) "TheatreSaga"),
  (Jvm.Cond.castable "java/util/ArrayList" "java/util/List"),
  (Jvm.Cond.castable "java/util/LinkedList" "java/util/List"),
  (Jvm.Cond.castable "java/lang/IndexOutOfBoundsException" "java/lang/IndexOutOfBoundsException"),
  (Jvm.Cond.castable "[B" "java/lang/Cloneable"),
  (Jvm.Cond.castable "java/lang/IllegalArgumentException" "java/lang/IllegalArgumentException"),
  (Jvm.Cond.castable "TheatreSaga$Walk" "java/util/Iterator"),
  (Jvm.Cond.castable "java/util/AbstractList$ListItr" "java/util/Iterator"),
  (Jvm.Cond.castable "java/util/ArrayList$Itr" "java/util/Iterator"),
  (Jvm.Cond.castable "java/util/ArrayList$ListItr" "java/util/Iterator"),
  (Jvm.Cond.castable "java/util/LinkedList$ListItr" "java/util/Iterator"),
  (Jvm.Cond.castable "java/util/NoSuchElementException" "java/util/NoSuchElementException"),
  (Jvm.Cond.castable "java/util/ArrayDeque" "java/util/Collection"),
  (Jvm.Cond.castable "java/util/ArrayList" "java/util/Collection"),
  (Jvm.Cond.castable "java/util/LinkedList" "java/util/Collection"),
  (Jvm.Cond.castable "java/lang/System$2" "jdk/internal/access/JavaLangAccess"),
  (Jvm.Cond.castable "TheatreSaga$Refusal" "TheatreSaga$Refusal"),
  (Jvm.Cond.castable "java/lang/IllegalStateException" "java/lang/IllegalStateException"),
  (Jvm.Cond.castable "java/lang/UnsupportedOperationException" "java/lang/UnsupportedOperationException"),
  (Jvm.Cond.castable "java/lang/ArrayIndexOutOfBoundsException" "java/lang/ArrayIndexOutOfBoundsException"),
  (Jvm.Cond.castable "java/lang/String" "java/lang/CharSequence"),
  (Jvm.Cond.castable "java/lang/StringBuilder" "java/lang/CharSequence"),
  (Jvm.Cond.castable "java/lang/ArithmeticException" "java/lang/ArithmeticException"),
  (Jvm.Cond.castable "TheatreSaga$FaultException" "TheatreSaga$FaultException"),
  (Jvm.Cond.castable "java/lang/ArrayIndexOutOfBoundsException" "java/lang/IndexOutOfBoundsException"),
  (Jvm.Cond.castable "java/lang/StringIndexOutOfBoundsException" "java/lang/IndexOutOfBoundsException"),
  (Jvm.Cond.castable "TheatreSaga" "java/lang/Object"),
  (Jvm.Cond.castable "java/util/ArrayDeque" "java/lang/Object"),
  (Jvm.Cond.castable "java/lang/StringBuilder" "java/lang/Object"),
  (Jvm.Cond.castable "TheatreSaga$Theatre" "java/lang/Object"),
  (Jvm.Cond.castable "java/util/ArrayList" "java/lang/Object"),
  (Jvm.Cond.castable "TheatreSaga$Town" "java/lang/Object"),
  (Jvm.Cond.castable "TheatreSagaModel" "java/lang/Object"),
  (Jvm.Cond.castable "java/util/ArrayList$Itr" "java/lang/Object"),
  (Jvm.Cond.castable "java/util/NoSuchElementException" "java/lang/Object"),
  (Jvm.Cond.castable "TheatreSaga$Theatre$Tour" "java/lang/Object"),
  (Jvm.Cond.castable "java/lang/IllegalArgumentException" "java/lang/Object"),
  (Jvm.Cond.castable "java/lang/String" "java/lang/Object"),
  (Jvm.Cond.castable "TheatreSaga$Deed" "java/lang/Object"),
  (Jvm.Cond.castable "java/lang/System$2" "java/lang/Object"),
  (Jvm.Cond.castable "TheatreSaga$Refusal" "java/lang/Object"),
  (Jvm.Cond.castable "TheatreSaga$Step" "java/lang/Object"),
  (Jvm.Cond.castable "java/lang/IndexOutOfBoundsException" "java/lang/Object"),
  (Jvm.Cond.castable "TheatreSaga$Walk" "java/lang/Object"),
  (Jvm.Cond.castable "java/lang/IllegalStateException" "java/lang/Object"),
  (Jvm.Cond.castable "java/lang/UnsupportedOperationException" "java/lang/Object"),
  (Jvm.Cond.castable "java/lang/ArrayIndexOutOfBoundsException" "java/lang/Object"),
  (Jvm.Cond.castable "TheatreSaga$1Choice" "java/lang/Object"),
  (Jvm.Cond.castable "java/util/LinkedList" "java/lang/Object"),
  (Jvm.Cond.castable "java/lang/Integer" "java/lang/Object"),
  (Jvm.Cond.castable "java/util/LinkedList$Node" "java/lang/Object"),
  (Jvm.Cond.castable "java/util/AbstractList$ListItr" "java/lang/Object"),
  (Jvm.Cond.castable "java/util/ArrayList$ListItr" "java/lang/Object"),
  (Jvm.Cond.castable "java/util/LinkedList$ListItr" "java/lang/Object"),
  (Jvm.Cond.castable "java/lang/ArithmeticException" "java/lang/Object"),
  (Jvm.Cond.castable "TheatreSaga$Parser" "java/lang/Object"),
  (Jvm.Cond.castable "TheatreSaga$FaultException" "java/lang/Object"),
  (Jvm.Cond.castable "java/lang/StringIndexOutOfBoundsException" "java/lang/Object"),
  (Jvm.Cond.castable "java/lang/Throwable" "java/lang/Object"),
  (Jvm.Cond.castable "[Ljava/lang/Object;" "java/lang/Object"),
  (Jvm.Cond.castable "[B" "java/lang/Object"),
  (Jvm.Cond.castable "[I" "java/lang/Object"),
  (Jvm.Cond.castable "[C" "java/lang/Object"),
  (Jvm.Cond.castable "[J" "java/lang/Object"),
  (Jvm.Cond.castable "[D" "java/lang/Object"),
  (Jvm.Cond.declares ({ cls := "java/util/List", name := "add", desc := "(Ljava/lang/Object;)Z" } : Jvm.MethodName)),
  (Jvm.Cond.declares ({ cls := "java/util/List", name := "iterator", desc := "()Ljava/util/Iterator;" } : Jvm.MethodName)),
  (Jvm.Cond.declares ({ cls := "java/util/AbstractList", name := "listIterator", desc := "()Ljava/util/ListIterator;" } : Jvm.MethodName)),
  (Jvm.Cond.declares ({ cls := "java/lang/RuntimeException", name := "<init>", desc := "()V" } : Jvm.MethodName)),
  (Jvm.Cond.declares ({ cls := "java/lang/RuntimeException", name := "<init>", desc := "(Ljava/lang/String;)V" } : Jvm.MethodName)),
  (Jvm.Cond.declares ({ cls := "java/lang/Exception", name := "<init>", desc := "()V" } : Jvm.MethodName)),
  (Jvm.Cond.declares ({ cls := "java/lang/Exception", name := "<init>", desc := "(Ljava/lang/String;)V" } : Jvm.MethodName)),
  (Jvm.Cond.declares ({ cls := "java/lang/Throwable", name := "<init>", desc := "()V" } : Jvm.MethodName)),
  (Jvm.Cond.declares ({ cls := "java/lang/Throwable", name := "<init>", desc := "(Ljava/lang/String;)V" } : Jvm.MethodName)),
  (Jvm.Cond.declares ({ cls := "java/util/AbstractList", name := "listIterator", desc := "(I)Ljava/util/ListIterator;" } : Jvm.MethodName)),
  (Jvm.Cond.declares ({ cls := "java/util/Iterator", name := "hasNext", desc := "()Z" } : Jvm.MethodName)),
  (Jvm.Cond.declares ({ cls := "java/util/AbstractCollection", name := "size", desc := "()I" } : Jvm.MethodName)),
  (Jvm.Cond.declares ({ cls := "java/util/Iterator", name := "next", desc := "()Ljava/lang/Object;" } : Jvm.MethodName)),
  (Jvm.Cond.declares ({ cls := "java/util/List", name := "get", desc := "(I)Ljava/lang/Object;" } : Jvm.MethodName)),
  (Jvm.Cond.declares ({ cls := "java/util/AbstractList", name := "get", desc := "(I)Ljava/lang/Object;" } : Jvm.MethodName)),
  (Jvm.Cond.declares ({ cls := "java/util/List", name := "addAll", desc := "(Ljava/util/Collection;)Z" } : Jvm.MethodName)),
  (Jvm.Cond.declares ({ cls := "java/util/Collection", name := "toArray", desc := "()[Ljava/lang/Object;" } : Jvm.MethodName)),
  (Jvm.Cond.declares ({ cls := "java/util/List", name := "size", desc := "()I" } : Jvm.MethodName)),
  (Jvm.Cond.declares ({ cls := "jdk/internal/access/JavaLangAccess", name := "getUTF16Char", desc := "([BI)C" } : Jvm.MethodName)),
  (Jvm.Cond.declares ({ cls := "java/util/List", name := "isEmpty", desc := "()Z" } : Jvm.MethodName)),
  (Jvm.Cond.declares ({ cls := "java/lang/IndexOutOfBoundsException", name := "<init>", desc := "()V" } : Jvm.MethodName)),
  (Jvm.Cond.declares ({ cls := "java/lang/IndexOutOfBoundsException", name := "<init>", desc := "(Ljava/lang/String;)V" } : Jvm.MethodName)),
  (Jvm.Cond.declares ({ cls := "java/lang/CharSequence", name := "length", desc := "()I" } : Jvm.MethodName)),
  (Jvm.Cond.declares ({ cls := "java/lang/CharSequence", name := "charAt", desc := "(I)C" } : Jvm.MethodName)),
  (Jvm.Cond.declares ({ cls := "java/lang/CharSequence", name := "toString", desc := "()Ljava/lang/String;" } : Jvm.MethodName)),
  (Jvm.Cond.declares ({ cls := "java/lang/Object", name := "getClass", desc := "()Ljava/lang/Class;" } : Jvm.MethodName)),
  Cond.selects "java/lang/StringBuilder" ⟨"java/lang/AbstractStringBuilder", "ensureCapacityInternal", "(I)V"⟩ ⟨"java/lang/AbstractStringBuilder", "ensureCapacityInternal", "(I)V"⟩,
  Cond.selects "java/lang/StringBuilder" ⟨"java/lang/AbstractStringBuilder", "newCapacity", "(I)I"⟩ ⟨"java/lang/AbstractStringBuilder", "newCapacity", "(I)I"⟩,
  Cond.selects "java/lang/StringBuilder" ⟨"java/lang/AbstractStringBuilder", "putStringAt", "(ILjava/lang/String;)V"⟩ ⟨"java/lang/AbstractStringBuilder", "putStringAt", "(ILjava/lang/String;)V"⟩,
  Cond.selects "java/lang/StringBuilder" ⟨"java/lang/AbstractStringBuilder", "inflateIfNeededFor", "(Ljava/lang/String;)V"⟩ ⟨"java/lang/AbstractStringBuilder", "inflateIfNeededFor", "(Ljava/lang/String;)V"⟩,
  Cond.selects "java/lang/StringBuilder" ⟨"java/lang/AbstractStringBuilder", "inflate", "()V"⟩ ⟨"java/lang/AbstractStringBuilder", "inflate", "()V"⟩]
def FWs : List (String × MethodName × MethodName) := [("java/util/ArrayList", ⟨"java/util/List", "add", "(Ljava/lang/Object;)Z"⟩, ⟨"java/util/ArrayList", "add", "(Ljava/lang/Object;)Z"⟩),
  ("java/util/LinkedList", ⟨"java/util/List", "add", "(Ljava/lang/Object;)Z"⟩, ⟨"java/util/LinkedList", "add", "(Ljava/lang/Object;)Z"⟩),
  ("java/util/ArrayList", ⟨"java/util/List", "iterator", "()Ljava/util/Iterator;"⟩, ⟨"java/util/ArrayList", "iterator", "()Ljava/util/Iterator;"⟩),
  ("java/util/LinkedList", ⟨"java/util/List", "iterator", "()Ljava/util/Iterator;"⟩, ⟨"java/util/AbstractSequentialList", "iterator", "()Ljava/util/Iterator;"⟩),
  ("TheatreSaga$Walk", ⟨"java/util/Iterator", "hasNext", "()Z"⟩, ⟨"TheatreSaga$Walk", "hasNext", "()Z"⟩),
  ("java/util/ArrayList$Itr", ⟨"java/util/Iterator", "hasNext", "()Z"⟩, ⟨"java/util/ArrayList$Itr", "hasNext", "()Z"⟩),
  ("java/util/LinkedList$ListItr", ⟨"java/util/Iterator", "hasNext", "()Z"⟩, ⟨"java/util/LinkedList$ListItr", "hasNext", "()Z"⟩),
  ("TheatreSaga$Walk", ⟨"java/util/Iterator", "next", "()Ljava/lang/Object;"⟩, ⟨"TheatreSaga$Walk", "next", "()Ljava/lang/Object;"⟩),
  ("java/util/ArrayList$Itr", ⟨"java/util/Iterator", "next", "()Ljava/lang/Object;"⟩, ⟨"java/util/ArrayList$Itr", "next", "()Ljava/lang/Object;"⟩),
  ("java/util/LinkedList$ListItr", ⟨"java/util/Iterator", "next", "()Ljava/lang/Object;"⟩, ⟨"java/util/LinkedList$ListItr", "next", "()Ljava/lang/Object;"⟩),
  ("java/util/ArrayList", ⟨"java/util/List", "get", "(I)Ljava/lang/Object;"⟩, ⟨"java/util/ArrayList", "get", "(I)Ljava/lang/Object;"⟩),
  ("java/util/LinkedList", ⟨"java/util/List", "get", "(I)Ljava/lang/Object;"⟩, ⟨"java/util/LinkedList", "get", "(I)Ljava/lang/Object;"⟩),
  ("java/util/ArrayList", ⟨"java/util/List", "addAll", "(Ljava/util/Collection;)Z"⟩, ⟨"java/util/ArrayList", "addAll", "(Ljava/util/Collection;)Z"⟩),
  ("java/util/LinkedList", ⟨"java/util/List", "addAll", "(Ljava/util/Collection;)Z"⟩, ⟨"java/util/LinkedList", "addAll", "(Ljava/util/Collection;)Z"⟩),
  ("java/util/ArrayDeque", ⟨"java/util/Collection", "toArray", "()[Ljava/lang/Object;"⟩, ⟨"java/util/ArrayDeque", "toArray", "()[Ljava/lang/Object;"⟩),
  ("java/util/ArrayList", ⟨"java/util/Collection", "toArray", "()[Ljava/lang/Object;"⟩, ⟨"java/util/ArrayList", "toArray", "()[Ljava/lang/Object;"⟩),
  ("java/util/LinkedList", ⟨"java/util/Collection", "toArray", "()[Ljava/lang/Object;"⟩, ⟨"java/util/LinkedList", "toArray", "()[Ljava/lang/Object;"⟩),
  ("java/util/ArrayList", ⟨"java/util/List", "size", "()I"⟩, ⟨"java/util/ArrayList", "size", "()I"⟩),
  ("java/util/LinkedList", ⟨"java/util/List", "size", "()I"⟩, ⟨"java/util/LinkedList", "size", "()I"⟩),
  ("java/util/ArrayList", ⟨"java/util/List", "isEmpty", "()Z"⟩, ⟨"java/util/ArrayList", "isEmpty", "()Z"⟩),
  ("java/util/LinkedList", ⟨"java/util/List", "isEmpty", "()Z"⟩, ⟨"java/util/AbstractCollection", "isEmpty", "()Z"⟩),
  ("java/lang/String", ⟨"java/lang/CharSequence", "length", "()I"⟩, ⟨"java/lang/String", "length", "()I"⟩),
  ("java/lang/StringBuilder", ⟨"java/lang/CharSequence", "length", "()I"⟩, ⟨"java/lang/StringBuilder", "length", "()I"⟩),
  ("java/lang/String", ⟨"java/lang/CharSequence", "charAt", "(I)C"⟩, ⟨"java/lang/String", "charAt", "(I)C"⟩),
  ("java/lang/StringBuilder", ⟨"java/lang/CharSequence", "charAt", "(I)C"⟩, ⟨"java/lang/StringBuilder", "charAt", "(I)C"⟩),
  ("java/lang/String", ⟨"java/lang/CharSequence", "toString", "()Ljava/lang/String;"⟩, ⟨"java/lang/String", "toString", "()Ljava/lang/String;"⟩),
  ("java/lang/StringBuilder", ⟨"java/lang/CharSequence", "toString", "()Ljava/lang/String;"⟩, ⟨"java/lang/StringBuilder", "toString", "()Ljava/lang/String;"⟩)]
def NCs : List (String × String) := [("TheatreSaga$FaultException", "TheatreSaga$Refusal"), ("TheatreSaga$FaultException", "[B"), ("TheatreSaga$FaultException", "java/lang/ArithmeticException"), ("TheatreSaga$FaultException", "java/lang/IllegalArgumentException"), ("TheatreSaga$FaultException", "java/lang/IllegalStateException"), ("TheatreSaga$FaultException", "java/lang/IndexOutOfBoundsException"), ("TheatreSaga$FaultException", "java/lang/String"), ("TheatreSaga$FaultException", "java/lang/UnsupportedOperationException"), ("TheatreSaga$FaultException", "java/util/NoSuchElementException"), ("TheatreSaga$Refusal", "TheatreSaga$FaultException"), ("TheatreSaga$Refusal", "[B"), ("TheatreSaga$Refusal", "java/lang/ArithmeticException"), ("TheatreSaga$Refusal", "java/lang/IllegalArgumentException"), ("TheatreSaga$Refusal", "java/lang/IllegalStateException"), ("TheatreSaga$Refusal", "java/lang/IndexOutOfBoundsException"), ("TheatreSaga$Refusal", "java/lang/String"), ("TheatreSaga$Refusal", "java/lang/UnsupportedOperationException"), ("TheatreSaga$Refusal", "java/util/NoSuchElementException"), ("java/lang/ArithmeticException", "TheatreSaga$FaultException"), ("java/lang/ArithmeticException", "TheatreSaga$Refusal"), ("java/lang/ArithmeticException", "[B"), ("java/lang/ArithmeticException", "java/lang/IllegalArgumentException"), ("java/lang/ArithmeticException", "java/lang/IllegalStateException"), ("java/lang/ArithmeticException", "java/lang/IndexOutOfBoundsException"), ("java/lang/ArithmeticException", "java/lang/String"), ("java/lang/ArithmeticException", "java/lang/UnsupportedOperationException"), ("java/lang/ArithmeticException", "java/util/NoSuchElementException"), ("java/lang/IllegalArgumentException", "TheatreSaga$FaultException"), ("java/lang/IllegalArgumentException", "TheatreSaga$Refusal"), ("java/lang/IllegalArgumentException", "[B"), ("java/lang/IllegalArgumentException", "java/lang/ArithmeticException"), ("java/lang/IllegalArgumentException", "java/lang/IllegalStateException"), ("java/lang/IllegalArgumentException", "java/lang/IndexOutOfBoundsException"), ("java/lang/IllegalArgumentException", "java/lang/String"), ("java/lang/IllegalArgumentException", "java/lang/UnsupportedOperationException"), ("java/lang/IllegalArgumentException", "java/util/NoSuchElementException"), ("java/lang/IllegalStateException", "TheatreSaga$FaultException"), ("java/lang/IllegalStateException", "TheatreSaga$Refusal"), ("java/lang/IllegalStateException", "[B"), ("java/lang/IllegalStateException", "java/lang/ArithmeticException"), ("java/lang/IllegalStateException", "java/lang/IllegalArgumentException"), ("java/lang/IllegalStateException", "java/lang/IndexOutOfBoundsException"), ("java/lang/IllegalStateException", "java/lang/String"), ("java/lang/IllegalStateException", "java/lang/UnsupportedOperationException"), ("java/lang/IllegalStateException", "java/util/NoSuchElementException"), ("java/lang/IndexOutOfBoundsException", "TheatreSaga$FaultException"), ("java/lang/IndexOutOfBoundsException", "TheatreSaga$Refusal"), ("java/lang/IndexOutOfBoundsException", "[B"), ("java/lang/IndexOutOfBoundsException", "java/lang/ArithmeticException"), ("java/lang/IndexOutOfBoundsException", "java/lang/IllegalArgumentException"), ("java/lang/IndexOutOfBoundsException", "java/lang/IllegalStateException"), ("java/lang/IndexOutOfBoundsException", "java/lang/String"), ("java/lang/IndexOutOfBoundsException", "java/lang/UnsupportedOperationException"), ("java/lang/IndexOutOfBoundsException", "java/util/NoSuchElementException"), ("java/lang/UnsupportedOperationException", "TheatreSaga$FaultException"), ("java/lang/UnsupportedOperationException", "TheatreSaga$Refusal"), ("java/lang/UnsupportedOperationException", "[B"), ("java/lang/UnsupportedOperationException", "java/lang/ArithmeticException"), ("java/lang/UnsupportedOperationException", "java/lang/IllegalArgumentException"), ("java/lang/UnsupportedOperationException", "java/lang/IllegalStateException"), ("java/lang/UnsupportedOperationException", "java/lang/IndexOutOfBoundsException"), ("java/lang/UnsupportedOperationException", "java/lang/String"), ("java/lang/UnsupportedOperationException", "java/util/NoSuchElementException"), ("java/util/NoSuchElementException", "TheatreSaga$FaultException"), ("java/util/NoSuchElementException", "TheatreSaga$Refusal"), ("java/util/NoSuchElementException", "[B"), ("java/util/NoSuchElementException", "java/lang/ArithmeticException"), ("java/util/NoSuchElementException", "java/lang/IllegalArgumentException"), ("java/util/NoSuchElementException", "java/lang/IllegalStateException"), ("java/util/NoSuchElementException", "java/lang/IndexOutOfBoundsException"), ("java/util/NoSuchElementException", "java/lang/String"), ("java/util/NoSuchElementException", "java/lang/UnsupportedOperationException")]
def STs (f : Nat → Nat) : List (String × Nat × String × Nat) := [("TheatreSaga", 47, "", f 0), ("TheatreSaga", 114, "tour", f 1), ("TheatreSaga", 120, "step", f 2), ("TheatreSaga", 122, "start", f 3), ("TheatreSaga", 124, "back", f 4), ("TheatreSaga", 185, "shut", f 5), ("TheatreSaga", 187, "open", f 6), ("TheatreSaga", 189, "dear", f 7), ("TheatreSaga", 230, "hours", f 8), ("TheatreSaga", 310, "prbdu", f 9), ("TheatreSaga", 328, "|", f 10), ("TheatreSaga$Deed", 30, "tour", f 11), ("TheatreSaga$Deed", 36, "hall", f 12), ("TheatreSaga$Deed", 38, "wagons", f 13), ("TheatreSaga$Deed", 40, "beds", f 14), ("TheatreSaga$Deed", 42, "step", f 15), ("TheatreSaga$Deed", 44, "start", f 16), ("TheatreSaga$Deed", 46, "back", f 17), ("TheatreSaga$Deed", 48, "shut", f 18), ("TheatreSaga$Deed", 50, "open", f 19), ("TheatreSaga$Deed", 52, "dear", f 20), ("TheatreSaga$Parser", 50, " tour hall wagons beds start back shut open hours ", f 21), ("TheatreSaga$Parser", 52, " ", f 22), ("TheatreSaga$Parser", 79, "hours", f 23), ("TheatreSaga$Parser", 92, "hall", f 24), ("TheatreSaga$Parser", 94, "wagons", f 25), ("TheatreSaga$Parser", 96, "beds", f 26), ("TheatreSaga$Step", 27, "hwb", f 27), ("TheatreSaga$Step", 39, "", f 28), ("TheatreSaga$Step", 47, "/", f 29), ("TheatreSaga$Step", 49, "x", f 30), ("TheatreSagaModel", 32, "", f 31), ("TheatreSagaModel", 188, "prbdu", f 32), ("TheatreSagaModel", 196, "hwb", f 33), ("TheatreSagaModel", 225, "tour hall wagons beds start back shut open hours ", f 34), ("TheatreSagaModel", 234, "hall", f 35), ("TheatreSagaModel", 240, "wagons", f 36), ("TheatreSagaModel", 242, "beds", f 37), ("TheatreSagaModel", 244, "hours", f 38), ("TheatreSagaModel", 250, "tour", f 39), ("TheatreSagaModel", 252, "start", f 40), ("TheatreSagaModel", 254, "back", f 41), ("TheatreSagaModel", 256, "shut", f 42), ("TheatreSagaModel", 258, "open", f 43), ("java/lang/ArrayIndexOutOfBoundsException", 13, "Array index out of range: ", f 44), ("java/lang/StringIndexOutOfBoundsException", 13, "String index out of range: ", f 45), ("java/lang/StringLatin1", 151, "", f 46), ("java/lang/StringUTF16", 295, "", f 47), ("java/lang/Throwable", 81, ": ", f 48), ("java/util/ArrayDeque", 35, "Sorry, deque too big", f 49), ("java/util/ArrayList", 201, "Index: ", f 50), ("java/util/ArrayList", 203, ", Size: ", f 51), ("java/util/Arrays", 48, "fromIndex(", f 52), ("java/util/Arrays", 57, ") > toIndex(", f 53), ("java/util/Arrays", 59, ")", f 54), ("java/util/Arrays", 337, " > ", f 55), ("java/util/LinkedList", 100, "Index: ", f 56), ("java/util/LinkedList", 109, ", Size: ", f 57), ("jdk/internal/util/ArraysSupport", 92, "unrecognized basic type: ", f 58)]
def SVs (f : Nat → Option Nat) : List (String × String × String × Value) := [("java/lang/String", "COMPACT_STRINGS", "Z", .int 1), ("java/lang/StringUTF16", "$assertionsDisabled", "Z", .int 1), ("java/lang/StringUTF16", "HI_BYTE_SHIFT", "I", .int 0), ("java/lang/StringUTF16", "LO_BYTE_SHIFT", "I", .int 8), ("java/lang/Integer$IntegerCache", "high", "I", .int 127), ("java/lang/Integer", "DigitOnes", "[B", va_rf (f 0)), ("java/lang/Integer", "DigitTens", "[B", va_rf (f 1)), ("java/lang/Integer$IntegerCache", "cache", "[Ljava/lang/Integer;", va_rf (f 2)), ("java/util/ArrayList", "DEFAULTCAPACITY_EMPTY_ELEMENTDATA", "[Ljava/lang/Object;", va_rf (f 3)), ("jdk/internal/util/Preconditions", "SIOOBE_FORMATTER", "Ljava/util/function/BiFunction;", va_rf (f 4)), ("java/lang/Throwable", "UNASSIGNED_STACK", "[Ljava/lang/StackTraceElement;", va_rf (f 5)), ("java/lang/Throwable", "SUPPRESSED_SENTINEL", "Ljava/util/List;", va_rf (f 6))]
def mkG (X : XT) : GT := (X.1, X.2.1, X.2.2.1, X.2.2.2.1, CL, NWs, FWs, NCs, STs X.2.2.2.2.1, SVs X.2.2.2.2.2.1, [("[Ljava/lang/Object;", X.2.2.2.2.2.2 0)])
/-- addresses of the string constants, of the statics, of the mirror -/
def xS (X : XT) : Nat → Nat := X.2.2.2.2.1
def xR (X : XT) : Nat → Option Nat := X.2.2.2.2.2.1
def xM (X : XT) : Nat → Nat := X.2.2.2.2.2.2
theorem mkG_C (X : XT) : gC (mkG X) = CL := rfl
def lk {α : Type} (l : List (Nat × Nat × α)) (i c : Nat) : Option α := (l.find? fun r => r.1 == i && r.2.1 == c).map (fun r => r.2.2)
theorem lk_mem {α : Type} {l : List (Nat × Nat × α)} {i c : Nat} {x : α} (h : lk l i c = some x) : (i, c, x) ∈ l := by
  unfold lk at h
  obtain ⟨r, h1, h2⟩ := Option.map_eq_some_iff.mp h
  have h3 := List.find?_some h1
  have h4 := List.mem_of_find?_eq_some h1
  simp only [Bool.and_eq_true, beq_iff_eq] at h3
  obtain ⟨a, b, d⟩ := r
  obtain ⟨rfl, rfl⟩ := h3
  have h2 : d = x := h2
  subst h2
  exact h4
def FK39_0 : List (Nat × Nat × Nat) := [(29, 0, 1), (36, 0, 2), (43, 0, 0), (49, 0, 3), (53, 0, 4), (72, 6, 6), (75, 0, 5), (76, 6, 7), (79, 0, 6), (104, 1, 0), (137, 4, 4), (140, 4, 1), (143, 4, 2), (149, 4, 5), (152, 4, 6), (155, 4, 7), (158, 4, 8), (161, 4, 9), (164, 4, 10), (181, 4, 3), (211, 1, 1), (216, 2, 0), (220, 2, 1), (227, 2, 2), (281, 9, 0), (336, 1, 2), (342, 1, 3), (345, 1, 4), (346, 1, 5), (348, 1, 6)]
theorem FK39_0_ok (X : XT) : ∀ r ∈ FK39_0, FS (mkG X) (cn 39) r.1 r.2.1 r.2.2 := (List.forall_mem_cons.mpr ⟨⟨"TheatreSaga", "TheatreSaga", TX1, 8, rfl, Nat.le_of_ble_eq_true rfl, Or.inl q421, Or.inl rfl, in_X1⟩, (List.forall_mem_cons.mpr ⟨⟨"TheatreSaga", "TheatreSaga", TX1, 8, rfl, Nat.le_of_ble_eq_true rfl, Or.inl q423, Or.inl rfl, in_X1⟩, (List.forall_mem_cons.mpr ⟨⟨"TheatreSaga", "TheatreSaga", TX1, 8, rfl, Nat.le_of_ble_eq_true rfl, Or.inl q420, Or.inl rfl, in_X1⟩, (List.forall_mem_cons.mpr ⟨⟨"TheatreSaga", "TheatreSaga", TX1, 8, rfl, Nat.le_of_ble_eq_true rfl, Or.inl q424, Or.inl rfl, in_X1⟩, (List.forall_mem_cons.mpr ⟨⟨"TheatreSaga", "TheatreSaga", TX1, 8, rfl, Nat.le_of_ble_eq_true rfl, Or.inl q425, Or.inl rfl, in_X1⟩, (List.forall_mem_cons.mpr ⟨⟨"TheatreSaga$Refusal", "TheatreSaga$Refusal", TX7, 8, rfl, Nat.le_of_ble_eq_true rfl, Or.inr ⟨"TheatreSaga", (List.mem_of_getElem? (i := 43) rfl)⟩, Or.inl rfl, in_X7⟩, (List.forall_mem_cons.mpr ⟨⟨"TheatreSaga", "TheatreSaga", TX1, 8, rfl, Nat.le_of_ble_eq_true rfl, Or.inl q426, Or.inl rfl, in_X1⟩, (List.forall_mem_cons.mpr ⟨⟨"TheatreSaga$Refusal", "TheatreSaga$Refusal", TX7, 8, rfl, Nat.le_of_ble_eq_true rfl, Or.inr ⟨"TheatreSaga", (List.mem_of_getElem? (i := 44) rfl)⟩, Or.inl rfl, in_X7⟩, (List.forall_mem_cons.mpr ⟨⟨"TheatreSaga", "TheatreSaga", TX1, 8, rfl, Nat.le_of_ble_eq_true rfl, Or.inl q427, Or.inl rfl, in_X1⟩, (List.forall_mem_cons.mpr ⟨⟨"TheatreSaga$Theatre", "TheatreSaga$Theatre", TX2, 10, rfl, Nat.le_of_ble_eq_true rfl, Or.inr ⟨"TheatreSaga", (List.mem_of_getElem? (i := 11) rfl)⟩, Or.inl rfl, in_X2⟩, (List.forall_mem_cons.mpr ⟨⟨"TheatreSaga$Theatre$Tour", "TheatreSaga$Theatre$Tour", TX5, 12, rfl, Nat.le_of_ble_eq_true rfl, Or.inr ⟨"TheatreSaga", (List.mem_of_getElem? (i := 35) rfl)⟩, Or.inl rfl, in_X5⟩, (List.forall_mem_cons.mpr ⟨⟨"TheatreSaga$Theatre$Tour", "TheatreSaga$Theatre$Tour", TX5, 12, rfl, Nat.le_of_ble_eq_true rfl, Or.inr ⟨"TheatreSaga", (List.mem_of_getElem? (i := 31) rfl)⟩, Or.inl rfl, in_X5⟩, (List.forall_mem_cons.mpr ⟨⟨"TheatreSaga$Theatre$Tour", "TheatreSaga$Theatre$Tour", TX5, 12, rfl, Nat.le_of_ble_eq_true rfl, Or.inr ⟨"TheatreSaga", (List.mem_of_getElem? (i := 32) rfl)⟩, Or.inl rfl, in_X5⟩, (List.forall_mem_cons.mpr ⟨⟨"TheatreSaga$Theatre$Tour", "TheatreSaga$Theatre$Tour", TX5, 12, rfl, Nat.le_of_ble_eq_true rfl, Or.inr ⟨"TheatreSaga", (List.mem_of_getElem? (i := 37) rfl)⟩, Or.inl rfl, in_X5⟩, (List.forall_mem_cons.mpr ⟨⟨"TheatreSaga$Theatre$Tour", "TheatreSaga$Theatre$Tour", TX5, 12, rfl, Nat.le_of_ble_eq_true rfl, Or.inr ⟨"TheatreSaga", (List.mem_of_getElem? (i := 38) rfl)⟩, Or.inl rfl, in_X5⟩, (List.forall_mem_cons.mpr ⟨⟨"TheatreSaga$Theatre$Tour", "TheatreSaga$Theatre$Tour", TX5, 12, rfl, Nat.le_of_ble_eq_true rfl, Or.inr ⟨"TheatreSaga", (List.mem_of_getElem? (i := 39) rfl)⟩, Or.inl rfl, in_X5⟩, (List.forall_mem_cons.mpr ⟨⟨"TheatreSaga$Theatre$Tour", "TheatreSaga$Theatre$Tour", TX5, 12, rfl, Nat.le_of_ble_eq_true rfl, Or.inr ⟨"TheatreSaga", (List.mem_of_getElem? (i := 40) rfl)⟩, Or.inl rfl, in_X5⟩, (List.forall_mem_cons.mpr ⟨⟨"TheatreSaga$Theatre$Tour", "TheatreSaga$Theatre$Tour", TX5, 12, rfl, Nat.le_of_ble_eq_true rfl, Or.inr ⟨"TheatreSaga", (List.mem_of_getElem? (i := 41) rfl)⟩, Or.inl rfl, in_X5⟩, (List.forall_mem_cons.mpr ⟨⟨"TheatreSaga$Theatre$Tour", "TheatreSaga$Theatre$Tour", TX5, 12, rfl, Nat.le_of_ble_eq_true rfl, Or.inr ⟨"TheatreSaga", (List.mem_of_getElem? (i := 42) rfl)⟩, Or.inl rfl, in_X5⟩, (List.forall_mem_cons.mpr ⟨⟨"TheatreSaga$Theatre$Tour", "TheatreSaga$Theatre$Tour", TX5, 12, rfl, Nat.le_of_ble_eq_true rfl, Or.inr ⟨"TheatreSaga", (List.mem_of_getElem? (i := 33) rfl)⟩, Or.inl rfl, in_X5⟩, (List.forall_mem_cons.mpr ⟨⟨"TheatreSaga$Theatre", "TheatreSaga$Theatre", TX2, 10, rfl, Nat.le_of_ble_eq_true rfl, Or.inr ⟨"TheatreSaga", (List.mem_of_getElem? (i := 14) rfl)⟩, Or.inl rfl, in_X2⟩, (List.forall_mem_cons.mpr ⟨⟨"TheatreSaga$Town", "TheatreSaga$Town", TX3, 4, rfl, Nat.le_of_ble_eq_true rfl, Or.inr ⟨"TheatreSaga", (List.mem_of_getElem? (i := 4) rfl)⟩, Or.inl rfl, in_X3⟩, (List.forall_mem_cons.mpr ⟨⟨"TheatreSaga$Town", "TheatreSaga$Town", TX3, 4, rfl, Nat.le_of_ble_eq_true rfl, Or.inr ⟨"TheatreSaga", (List.mem_of_getElem? (i := 7) rfl)⟩, Or.inl rfl, in_X3⟩, (List.forall_mem_cons.mpr ⟨⟨"TheatreSaga$Town", "TheatreSaga$Town", TX3, 4, rfl, Nat.le_of_ble_eq_true rfl, Or.inr ⟨"TheatreSaga", (List.mem_of_getElem? (i := 9) rfl)⟩, Or.inl rfl, in_X3⟩, (List.forall_mem_cons.mpr ⟨⟨"TheatreSaga$1Choice", "TheatreSaga$1Choice", TX10, 5, rfl, Nat.le_of_ble_eq_true rfl, Or.inr ⟨"TheatreSaga", (List.mem_of_getElem? (i := 45) rfl)⟩, Or.inl rfl, in_X10⟩, (List.forall_mem_cons.mpr ⟨⟨"TheatreSaga$Theatre", "TheatreSaga$Theatre", TX2, 10, rfl, Nat.le_of_ble_eq_true rfl, Or.inr ⟨"TheatreSaga", (List.mem_of_getElem? (i := 15) rfl)⟩, Or.inl rfl, in_X2⟩, (List.forall_mem_cons.mpr ⟨⟨"TheatreSaga$Theatre", "TheatreSaga$Theatre", TX2, 10, rfl, Nat.le_of_ble_eq_true rfl, Or.inr ⟨"TheatreSaga", (List.mem_of_getElem? (i := 17) rfl)⟩, Or.inl rfl, in_X2⟩, (List.forall_mem_cons.mpr ⟨⟨"TheatreSaga$Theatre", "TheatreSaga$Theatre", TX2, 10, rfl, Nat.le_of_ble_eq_true rfl, Or.inr ⟨"TheatreSaga", (List.mem_of_getElem? (i := 19) rfl)⟩, Or.inl rfl, in_X2⟩, (List.forall_mem_cons.mpr ⟨⟨"TheatreSaga$Theatre", "TheatreSaga$Theatre", TX2, 10, rfl, Nat.le_of_ble_eq_true rfl, Or.inr ⟨"TheatreSaga", (List.mem_of_getElem? (i := 21) rfl)⟩, Or.inl rfl, in_X2⟩, (List.forall_mem_cons.mpr ⟨⟨"TheatreSaga$Theatre", "TheatreSaga$Theatre", TX2, 10, rfl, Nat.le_of_ble_eq_true rfl, Or.inr ⟨"TheatreSaga", (List.mem_of_getElem? (i := 23) rfl)⟩, Or.inl rfl, in_X2⟩, (fun _ h => nomatch h)⟩)⟩)⟩)⟩)⟩)⟩)⟩)⟩)⟩)⟩)⟩)⟩)⟩)⟩)⟩)⟩)⟩)⟩)⟩)⟩)⟩)⟩)⟩)⟩)⟩)⟩)⟩)⟩)⟩)⟩)
def FK39_1 : List (Nat × Nat × Nat) := [(351, 1, 7), (354, 1, 8), (357, 1, 9), (392, 11, 6), (406, 0, 7)]
theorem FK39_1_ok (X : XT) : ∀ r ∈ FK39_1, FS (mkG X) (cn 39) r.1 r.2.1 r.2.2 := (List.forall_mem_cons.mpr ⟨⟨"TheatreSaga$Theatre", "TheatreSaga$Theatre", TX2, 10, rfl, Nat.le_of_ble_eq_true rfl, Or.inr ⟨"TheatreSaga", (List.mem_of_getElem? (i := 24) rfl)⟩, Or.inl rfl, in_X2⟩, (List.forall_mem_cons.mpr ⟨⟨"TheatreSaga$Theatre", "TheatreSaga$Theatre", TX2, 10, rfl, Nat.le_of_ble_eq_true rfl, Or.inr ⟨"TheatreSaga", (List.mem_of_getElem? (i := 26) rfl)⟩, Or.inl rfl, in_X2⟩, (List.forall_mem_cons.mpr ⟨⟨"TheatreSaga$Theatre", "TheatreSaga$Theatre", TX2, 10, rfl, Nat.le_of_ble_eq_true rfl, Or.inr ⟨"TheatreSaga", (List.mem_of_getElem? (i := 28) rfl)⟩, Or.inl rfl, in_X2⟩, (List.forall_mem_cons.mpr ⟨⟨"TheatreSaga$FaultException", "TheatreSaga$FaultException", TX12, 7, rfl, Nat.le_of_ble_eq_true rfl, Or.inr ⟨"TheatreSaga", (List.mem_of_getElem? (i := 46) rfl)⟩, Or.inl rfl, in_X12⟩, (List.forall_mem_cons.mpr ⟨⟨"TheatreSaga", "TheatreSaga", TX1, 8, rfl, Nat.le_of_ble_eq_true rfl, Or.inl q428, Or.inl rfl, in_X1⟩, (fun _ h => nomatch h)⟩)⟩)⟩)⟩)⟩)
def FK39 : List (Nat × Nat × Nat) := FK39_0 ++ FK39_1
def FK39a : List (Nat × Nat × Nat) := FK39_0 ++ (FK39_1)
theorem FK39_ok (X : XT) : ∀ r ∈ FK39a, FS (mkG X) (cn 39) r.1 r.2.1 r.2.2 := List.forall_mem_append.mpr ⟨FK39_0_ok X, FK39_1_ok X⟩
def FK48_0 : List (Nat × Nat × Nat) := [(3, 9, 4), (9, 9, 1), (13, 9, 2), (16, 9, 3), (25, 9, 0), (28, 0, 0), (32, 1, 1), (46, 2, 0), (54, 2, 1)]
theorem FK48_0_ok (X : XT) : ∀ r ∈ FK48_0, FS (mkG X) (cn 48) r.1 r.2.1 r.2.2 := (List.forall_mem_cons.mpr ⟨⟨"TheatreSaga$1Choice", "TheatreSaga$1Choice", TX10, 5, rfl, Nat.le_of_ble_eq_true rfl, Or.inl q1874, Or.inl rfl, in_X10⟩, (List.forall_mem_cons.mpr ⟨⟨"TheatreSaga$1Choice", "TheatreSaga$1Choice", TX10, 5, rfl, Nat.le_of_ble_eq_true rfl, Or.inl q1871, Or.inl rfl, in_X10⟩, (List.forall_mem_cons.mpr ⟨⟨"TheatreSaga$1Choice", "TheatreSaga$1Choice", TX10, 5, rfl, Nat.le_of_ble_eq_true rfl, Or.inl q1872, Or.inl rfl, in_X10⟩, (List.forall_mem_cons.mpr ⟨⟨"TheatreSaga$1Choice", "TheatreSaga$1Choice", TX10, 5, rfl, Nat.le_of_ble_eq_true rfl, Or.inl q1873, Or.inl rfl, in_X10⟩, (List.forall_mem_cons.mpr ⟨⟨"TheatreSaga$1Choice", "TheatreSaga$1Choice", TX10, 5, rfl, Nat.le_of_ble_eq_true rfl, Or.inl q1869, Or.inl rfl, in_X10⟩, (List.forall_mem_cons.mpr ⟨⟨"TheatreSaga", "TheatreSaga", TX1, 8, rfl, Nat.le_of_ble_eq_true rfl, Or.inr ⟨"TheatreSaga", (List.mem_of_getElem? (i := 29) rfl)⟩, Or.inl rfl, in_X1⟩, (List.forall_mem_cons.mpr ⟨⟨"TheatreSaga$Theatre", "TheatreSaga$Theatre", TX2, 10, rfl, Nat.le_of_ble_eq_true rfl, Or.inr ⟨"TheatreSaga", (List.mem_of_getElem? (i := 12) rfl)⟩, Or.inl rfl, in_X2⟩, (List.forall_mem_cons.mpr ⟨⟨"TheatreSaga$Town", "TheatreSaga$Town", TX3, 4, rfl, Nat.le_of_ble_eq_true rfl, Or.inr ⟨"TheatreSaga", (List.mem_of_getElem? (i := 1) rfl)⟩, Or.inl rfl, in_X3⟩, (List.forall_mem_cons.mpr ⟨⟨"TheatreSaga$Town", "TheatreSaga$Town", TX3, 4, rfl, Nat.le_of_ble_eq_true rfl, Or.inr ⟨"TheatreSaga", (List.mem_of_getElem? (i := 5) rfl)⟩, Or.inl rfl, in_X3⟩, (fun _ h => nomatch h)⟩)⟩)⟩)⟩)⟩)⟩)⟩)⟩)⟩)
def FK48 : List (Nat × Nat × Nat) := FK48_0
theorem FK48_ok (X : XT) : ∀ r ∈ FK48, FS (mkG X) (cn 48) r.1 r.2.1 r.2.2 := FK48_0_ok X
def FK44_0 : List (Nat × Nat × Nat) := [(9, 5, 0), (15, 5, 1), (69, 1, 0)]
theorem FK44_0_ok (X : XT) : ∀ r ∈ FK44_0, FS (mkG X) (cn 44) r.1 r.2.1 r.2.2 := (List.forall_mem_cons.mpr ⟨⟨"TheatreSaga$Deed", "TheatreSaga$Deed", TX6, 2, rfl, Nat.le_of_ble_eq_true rfl, Or.inl q1240, Or.inl rfl, in_X6⟩, (List.forall_mem_cons.mpr ⟨⟨"TheatreSaga$Deed", "TheatreSaga$Deed", TX6, 2, rfl, Nat.le_of_ble_eq_true rfl, Or.inl q1241, Or.inl rfl, in_X6⟩, (List.forall_mem_cons.mpr ⟨⟨"TheatreSaga$Theatre", "TheatreSaga$Theatre", TX2, 10, rfl, Nat.le_of_ble_eq_true rfl, Or.inr ⟨"TheatreSaga", (List.mem_of_getElem? (i := 10) rfl)⟩, Or.inl rfl, in_X2⟩, (fun _ h => nomatch h)⟩)⟩)⟩)
def FK44 : List (Nat × Nat × Nat) := FK44_0
theorem FK44_ok (X : XT) : ∀ r ∈ FK44, FS (mkG X) (cn 44) r.1 r.2.1 r.2.2 := FK44_0_ok X
def FK50_0 : List (Nat × Nat × Nat) := [(7, 11, 6)]
theorem FK50_0_ok (X : XT) : ∀ r ∈ FK50_0, FS (mkG X) (cn 50) r.1 r.2.1 r.2.2 := (List.forall_mem_cons.mpr ⟨⟨"TheatreSaga$FaultException", "TheatreSaga$FaultException", TX12, 7, rfl, Nat.le_of_ble_eq_true rfl, Or.inl q2223, Or.inl rfl, in_X12⟩, (fun _ h => nomatch h)⟩)
def FK50 : List (Nat × Nat × Nat) := FK50_0
theorem FK50_ok (X : XT) : ∀ r ∈ FK50, FS (mkG X) (cn 50) r.1 r.2.1 r.2.2 := FK50_0_ok X
def FK49_0 : List (Nat × Nat × Nat) := [(1, 10, 1), (13, 10, 0), (17, 0, 2)]
theorem FK49_0_ok (X : XT) : ∀ r ∈ FK49_0, FS (mkG X) (cn 49) r.1 r.2.1 r.2.2 := (List.forall_mem_cons.mpr ⟨⟨"TheatreSaga$Parser", "TheatreSaga$Parser", TX11, 2, rfl, Nat.le_of_ble_eq_true rfl, Or.inl q2138, Or.inl rfl, in_X11⟩, (List.forall_mem_cons.mpr ⟨⟨"TheatreSaga$Parser", "TheatreSaga$Parser", TX11, 2, rfl, Nat.le_of_ble_eq_true rfl, Or.inl q2137, Or.inl rfl, in_X11⟩, (List.forall_mem_cons.mpr ⟨⟨"TheatreSaga", "TheatreSaga", TX1, 8, rfl, Nat.le_of_ble_eq_true rfl, Or.inr ⟨"TheatreSaga", (List.mem_of_getElem? (i := 30) rfl)⟩, Or.inl rfl, in_X1⟩, (fun _ h => nomatch h)⟩)⟩)⟩)
def FK49 : List (Nat × Nat × Nat) := FK49_0
theorem FK49_ok (X : XT) : ∀ r ∈ FK49, FS (mkG X) (cn 49) r.1 r.2.1 r.2.2 := FK49_0_ok X
def FK45_0 : List (Nat × Nat × Nat) := [(7, 6, 6), (13, 6, 7)]
theorem FK45_0_ok (X : XT) : ∀ r ∈ FK45_0, FS (mkG X) (cn 45) r.1 r.2.1 r.2.2 := (List.forall_mem_cons.mpr ⟨⟨"TheatreSaga$Refusal", "TheatreSaga$Refusal", TX7, 8, rfl, Nat.le_of_ble_eq_true rfl, Or.inl q1367, Or.inl rfl, in_X7⟩, (List.forall_mem_cons.mpr ⟨⟨"TheatreSaga$Refusal", "TheatreSaga$Refusal", TX7, 8, rfl, Nat.le_of_ble_eq_true rfl, Or.inl q1369, Or.inl rfl, in_X7⟩, (fun _ h => nomatch h)⟩)⟩)
def FK45 : List (Nat × Nat × Nat) := FK45_0
theorem FK45_ok (X : XT) : ∀ r ∈ FK45, FS (mkG X) (cn 45) r.1 r.2.1 r.2.2 := FK45_0_ok X
def FK46_0 : List (Nat × Nat × Nat) := [(9, 7, 0), (15, 7, 1), (18, 7, 2), (21, 7, 3)]
theorem FK46_0_ok (X : XT) : ∀ r ∈ FK46_0, FS (mkG X) (cn 46) r.1 r.2.1 r.2.2 := (List.forall_mem_cons.mpr ⟨⟨"TheatreSaga$Step", "TheatreSaga$Step", TX8, 4, rfl, Nat.le_of_ble_eq_true rfl, Or.inl q1391, Or.inl rfl, in_X8⟩, (List.forall_mem_cons.mpr ⟨⟨"TheatreSaga$Step", "TheatreSaga$Step", TX8, 4, rfl, Nat.le_of_ble_eq_true rfl, Or.inl q1392, Or.inl rfl, in_X8⟩, (List.forall_mem_cons.mpr ⟨⟨"TheatreSaga$Step", "TheatreSaga$Step", TX8, 4, rfl, Nat.le_of_ble_eq_true rfl, Or.inl q1393, Or.inl rfl, in_X8⟩, (List.forall_mem_cons.mpr ⟨⟨"TheatreSaga$Step", "TheatreSaga$Step", TX8, 4, rfl, Nat.le_of_ble_eq_true rfl, Or.inl q1394, Or.inl rfl, in_X8⟩, (fun _ h => nomatch h)⟩)⟩)⟩)⟩)
def FK46 : List (Nat × Nat × Nat) := FK46_0
theorem FK46_ok (X : XT) : ∀ r ∈ FK46, FS (mkG X) (cn 46) r.1 r.2.1 r.2.2 := FK46_0_ok X
def FK40_0 : List (Nat × Nat × Nat) := [(12, 1, 0), (18, 1, 1), (21, 1, 3), (56, 1, 2), (59, 1, 4), (62, 1, 5), (65, 1, 6), (68, 1, 7), (71, 1, 8), (74, 1, 9), (108, 2, 1), (143, 4, 4), (152, 2, 0), (170, 4, 5)]
theorem FK40_0_ok (X : XT) : ∀ r ∈ FK40_0, FS (mkG X) (cn 40) r.1 r.2.1 r.2.2 := (List.forall_mem_cons.mpr ⟨⟨"TheatreSaga$Theatre", "TheatreSaga$Theatre", TX2, 10, rfl, Nat.le_of_ble_eq_true rfl, Or.inl q368, Or.inl rfl, in_X2⟩, (List.forall_mem_cons.mpr ⟨⟨"TheatreSaga$Theatre", "TheatreSaga$Theatre", TX2, 10, rfl, Nat.le_of_ble_eq_true rfl, Or.inl q371, Or.inl rfl, in_X2⟩, (List.forall_mem_cons.mpr ⟨⟨"TheatreSaga$Theatre", "TheatreSaga$Theatre", TX2, 10, rfl, Nat.le_of_ble_eq_true rfl, Or.inl q377, Or.inl rfl, in_X2⟩, (List.forall_mem_cons.mpr ⟨⟨"TheatreSaga$Theatre", "TheatreSaga$Theatre", TX2, 10, rfl, Nat.le_of_ble_eq_true rfl, Or.inl q375, Or.inl rfl, in_X2⟩, (List.forall_mem_cons.mpr ⟨⟨"TheatreSaga$Theatre", "TheatreSaga$Theatre", TX2, 10, rfl, Nat.le_of_ble_eq_true rfl, Or.inl q380, Or.inl rfl, in_X2⟩, (List.forall_mem_cons.mpr ⟨⟨"TheatreSaga$Theatre", "TheatreSaga$Theatre", TX2, 10, rfl, Nat.le_of_ble_eq_true rfl, Or.inl q383, Or.inl rfl, in_X2⟩, (List.forall_mem_cons.mpr ⟨⟨"TheatreSaga$Theatre", "TheatreSaga$Theatre", TX2, 10, rfl, Nat.le_of_ble_eq_true rfl, Or.inl q386, Or.inl rfl, in_X2⟩, (List.forall_mem_cons.mpr ⟨⟨"TheatreSaga$Theatre", "TheatreSaga$Theatre", TX2, 10, rfl, Nat.le_of_ble_eq_true rfl, Or.inl q389, Or.inl rfl, in_X2⟩, (List.forall_mem_cons.mpr ⟨⟨"TheatreSaga$Theatre", "TheatreSaga$Theatre", TX2, 10, rfl, Nat.le_of_ble_eq_true rfl, Or.inl q391, Or.inl rfl, in_X2⟩, (List.forall_mem_cons.mpr ⟨⟨"TheatreSaga$Theatre", "TheatreSaga$Theatre", TX2, 10, rfl, Nat.le_of_ble_eq_true rfl, Or.inl q394, Or.inl rfl, in_X2⟩, (List.forall_mem_cons.mpr ⟨⟨"TheatreSaga$Town", "TheatreSaga$Town", TX3, 4, rfl, Nat.le_of_ble_eq_true rfl, Or.inr ⟨"TheatreSaga", (List.mem_of_getElem? (i := 6) rfl)⟩, Or.inl rfl, in_X3⟩, (List.forall_mem_cons.mpr ⟨⟨"TheatreSaga$Theatre$Tour", "TheatreSaga$Theatre$Tour", TX5, 12, rfl, Nat.le_of_ble_eq_true rfl, Or.inr ⟨"TheatreSaga", (List.mem_of_getElem? (i := 34) rfl)⟩, Or.inl rfl, in_X5⟩, (List.forall_mem_cons.mpr ⟨⟨"TheatreSaga$Town", "TheatreSaga$Town", TX3, 4, rfl, Nat.le_of_ble_eq_true rfl, Or.inr ⟨"TheatreSaga", (List.mem_of_getElem? (i := 2) rfl)⟩, Or.inl rfl, in_X3⟩, (List.forall_mem_cons.mpr ⟨⟨"TheatreSaga$Theatre$Tour", "TheatreSaga$Theatre$Tour", TX5, 12, rfl, Nat.le_of_ble_eq_true rfl, Or.inr ⟨"TheatreSaga", (List.mem_of_getElem? (i := 36) rfl)⟩, Or.inl rfl, in_X5⟩, (fun _ h => nomatch h)⟩)⟩)⟩)⟩)⟩)⟩)⟩)⟩)⟩)⟩)⟩)⟩)⟩)⟩)
def FK40 : List (Nat × Nat × Nat) := FK40_0
theorem FK40_ok (X : XT) : ∀ r ∈ FK40, FS (mkG X) (cn 40) r.1 r.2.1 r.2.2 := FK40_0_ok X
def FK43_0 : List (Nat × Nat × Nat) := [(3, 4, 11), (18, 4, 2), (22, 4, 3), (26, 4, 0), (30, 4, 1), (48, 4, 4), (51, 4, 5), (54, 4, 6), (57, 4, 7), (60, 4, 8), (63, 4, 9), (66, 4, 10), (127, 1, 1), (150, 2, 0), (158, 1, 3), (161, 1, 4), (164, 2, 2), (172, 1, 6), (178, 1, 5), (184, 1, 8), (187, 1, 9)]
theorem FK43_0_ok (X : XT) : ∀ r ∈ FK43_0, FS (mkG X) (cn 43) r.1 r.2.1 r.2.2 := (List.forall_mem_cons.mpr ⟨⟨"TheatreSaga$Theatre$Tour", "TheatreSaga$Theatre$Tour", TX5, 12, rfl, Nat.le_of_ble_eq_true rfl, Or.inl q1129, Or.inl rfl, in_X5⟩, (List.forall_mem_cons.mpr ⟨⟨"TheatreSaga$Theatre$Tour", "TheatreSaga$Theatre$Tour", TX5, 12, rfl, Nat.le_of_ble_eq_true rfl, Or.inl q1109, Or.inl rfl, in_X5⟩, (List.forall_mem_cons.mpr ⟨⟨"TheatreSaga$Theatre$Tour", "TheatreSaga$Theatre$Tour", TX5, 12, rfl, Nat.le_of_ble_eq_true rfl, Or.inl q1111, Or.inl rfl, in_X5⟩, (List.forall_mem_cons.mpr ⟨⟨"TheatreSaga$Theatre$Tour", "TheatreSaga$Theatre$Tour", TX5, 12, rfl, Nat.le_of_ble_eq_true rfl, Or.inl q1106, Or.inl rfl, in_X5⟩, (List.forall_mem_cons.mpr ⟨⟨"TheatreSaga$Theatre$Tour", "TheatreSaga$Theatre$Tour", TX5, 12, rfl, Nat.le_of_ble_eq_true rfl, Or.inl q1107, Or.inl rfl, in_X5⟩, (List.forall_mem_cons.mpr ⟨⟨"TheatreSaga$Theatre$Tour", "TheatreSaga$Theatre$Tour", TX5, 12, rfl, Nat.le_of_ble_eq_true rfl, Or.inl q1113, Or.inl rfl, in_X5⟩, (List.forall_mem_cons.mpr ⟨⟨"TheatreSaga$Theatre$Tour", "TheatreSaga$Theatre$Tour", TX5, 12, rfl, Nat.le_of_ble_eq_true rfl, Or.inl q1116, Or.inl rfl, in_X5⟩, (List.forall_mem_cons.mpr ⟨⟨"TheatreSaga$Theatre$Tour", "TheatreSaga$Theatre$Tour", TX5, 12, rfl, Nat.le_of_ble_eq_true rfl, Or.inl q1119, Or.inl rfl, in_X5⟩, (List.forall_mem_cons.mpr ⟨⟨"TheatreSaga$Theatre$Tour", "TheatreSaga$Theatre$Tour", TX5, 12, rfl, Nat.le_of_ble_eq_true rfl, Or.inl q1121, Or.inl rfl, in_X5⟩, (List.forall_mem_cons.mpr ⟨⟨"TheatreSaga$Theatre$Tour", "TheatreSaga$Theatre$Tour", TX5, 12, rfl, Nat.le_of_ble_eq_true rfl, Or.inl q1123, Or.inl rfl, in_X5⟩, (List.forall_mem_cons.mpr ⟨⟨"TheatreSaga$Theatre$Tour", "TheatreSaga$Theatre$Tour", TX5, 12, rfl, Nat.le_of_ble_eq_true rfl, Or.inl q1125, Or.inl rfl, in_X5⟩, (List.forall_mem_cons.mpr ⟨⟨"TheatreSaga$Theatre$Tour", "TheatreSaga$Theatre$Tour", TX5, 12, rfl, Nat.le_of_ble_eq_true rfl, Or.inl q1127, Or.inl rfl, in_X5⟩, (List.forall_mem_cons.mpr ⟨⟨"TheatreSaga$Theatre", "TheatreSaga$Theatre", TX2, 10, rfl, Nat.le_of_ble_eq_true rfl, Or.inr ⟨"TheatreSaga", (List.mem_of_getElem? (i := 13) rfl)⟩, Or.inl rfl, in_X2⟩, (List.forall_mem_cons.mpr ⟨⟨"TheatreSaga$Town", "TheatreSaga$Town", TX3, 4, rfl, Nat.le_of_ble_eq_true rfl, Or.inr ⟨"TheatreSaga", (List.mem_of_getElem? (i := 3) rfl)⟩, Or.inl rfl, in_X3⟩, (List.forall_mem_cons.mpr ⟨⟨"TheatreSaga$Theatre", "TheatreSaga$Theatre", TX2, 10, rfl, Nat.le_of_ble_eq_true rfl, Or.inr ⟨"TheatreSaga", (List.mem_of_getElem? (i := 16) rfl)⟩, Or.inl rfl, in_X2⟩, (List.forall_mem_cons.mpr ⟨⟨"TheatreSaga$Theatre", "TheatreSaga$Theatre", TX2, 10, rfl, Nat.le_of_ble_eq_true rfl, Or.inr ⟨"TheatreSaga", (List.mem_of_getElem? (i := 18) rfl)⟩, Or.inl rfl, in_X2⟩, (List.forall_mem_cons.mpr ⟨⟨"TheatreSaga$Town", "TheatreSaga$Town", TX3, 4, rfl, Nat.le_of_ble_eq_true rfl, Or.inr ⟨"TheatreSaga", (List.mem_of_getElem? (i := 8) rfl)⟩, Or.inl rfl, in_X3⟩, (List.forall_mem_cons.mpr ⟨⟨"TheatreSaga$Theatre", "TheatreSaga$Theatre", TX2, 10, rfl, Nat.le_of_ble_eq_true rfl, Or.inr ⟨"TheatreSaga", (List.mem_of_getElem? (i := 22) rfl)⟩, Or.inl rfl, in_X2⟩, (List.forall_mem_cons.mpr ⟨⟨"TheatreSaga$Theatre", "TheatreSaga$Theatre", TX2, 10, rfl, Nat.le_of_ble_eq_true rfl, Or.inr ⟨"TheatreSaga", (List.mem_of_getElem? (i := 20) rfl)⟩, Or.inl rfl, in_X2⟩, (List.forall_mem_cons.mpr ⟨⟨"TheatreSaga$Theatre", "TheatreSaga$Theatre", TX2, 10, rfl, Nat.le_of_ble_eq_true rfl, Or.inr ⟨"TheatreSaga", (List.mem_of_getElem? (i := 25) rfl)⟩, Or.inl rfl, in_X2⟩, (List.forall_mem_cons.mpr ⟨⟨"TheatreSaga$Theatre", "TheatreSaga$Theatre", TX2, 10, rfl, Nat.le_of_ble_eq_true rfl, Or.inr ⟨"TheatreSaga", (List.mem_of_getElem? (i := 27) rfl)⟩, Or.inl rfl, in_X2⟩, (fun _ h => nomatch h)⟩)⟩)⟩)⟩)⟩)⟩)⟩)⟩)⟩)⟩)⟩)⟩)⟩)⟩)⟩)⟩)⟩)⟩)⟩)⟩)⟩)
def FK43 : List (Nat × Nat × Nat) := FK43_0
theorem FK43_ok (X : XT) : ∀ r ∈ FK43, FS (mkG X) (cn 43) r.1 r.2.1 r.2.2 := FK43_0_ok X
def FK41_0 : List (Nat × Nat × Nat) := [(9, 2, 3), (15, 2, 1), (20, 2, 0), (24, 2, 2)]
theorem FK41_0_ok (X : XT) : ∀ r ∈ FK41_0, FS (mkG X) (cn 41) r.1 r.2.1 r.2.2 := (List.forall_mem_cons.mpr ⟨⟨"TheatreSaga$Town", "TheatreSaga$Town", TX3, 4, rfl, Nat.le_of_ble_eq_true rfl, Or.inl q242, Or.inl rfl, in_X3⟩, (List.forall_mem_cons.mpr ⟨⟨"TheatreSaga$Town", "TheatreSaga$Town", TX3, 4, rfl, Nat.le_of_ble_eq_true rfl, Or.inl q235, Or.inl rfl, in_X3⟩, (List.forall_mem_cons.mpr ⟨⟨"TheatreSaga$Town", "TheatreSaga$Town", TX3, 4, rfl, Nat.le_of_ble_eq_true rfl, Or.inl q230, Or.inl rfl, in_X3⟩, (List.forall_mem_cons.mpr ⟨⟨"TheatreSaga$Town", "TheatreSaga$Town", TX3, 4, rfl, Nat.le_of_ble_eq_true rfl, Or.inl q239, Or.inl rfl, in_X3⟩, (fun _ h => nomatch h)⟩)⟩)⟩)⟩)
def FK41 : List (Nat × Nat × Nat) := FK41_0
theorem FK41_ok (X : XT) : ∀ r ∈ FK41, FS (mkG X) (cn 41) r.1 r.2.1 r.2.2 := FK41_0_ok X
def FK47_0 : List (Nat × Nat × Nat) := [(20, 8, 0), (24, 8, 2), (28, 8, 1), (31, 8, 3)]
theorem FK47_0_ok (X : XT) : ∀ r ∈ FK47_0, FS (mkG X) (cn 47) r.1 r.2.1 r.2.2 := (List.forall_mem_cons.mpr ⟨⟨"TheatreSaga$Walk", "TheatreSaga$Walk", TX9, 4, rfl, Nat.le_of_ble_eq_true rfl, Or.inl q1460, Or.inl rfl, in_X9⟩, (List.forall_mem_cons.mpr ⟨⟨"TheatreSaga$Walk", "TheatreSaga$Walk", TX9, 4, rfl, Nat.le_of_ble_eq_true rfl, Or.inl q1462, Or.inl rfl, in_X9⟩, (List.forall_mem_cons.mpr ⟨⟨"TheatreSaga$Walk", "TheatreSaga$Walk", TX9, 4, rfl, Nat.le_of_ble_eq_true rfl, Or.inl q1461, Or.inl rfl, in_X9⟩, (List.forall_mem_cons.mpr ⟨⟨"TheatreSaga$Walk", "TheatreSaga$Walk", TX9, 4, rfl, Nat.le_of_ble_eq_true rfl, Or.inl q1463, Or.inl rfl, in_X9⟩, (fun _ h => nomatch h)⟩)⟩)⟩)⟩)
def FK47 : List (Nat × Nat × Nat) := FK47_0
theorem FK47_ok (X : XT) : ∀ r ∈ FK47, FS (mkG X) (cn 47) r.1 r.2.1 r.2.2 := FK47_0_ok X
def FK42_0 : List (Nat × Nat × Nat) := [(9, 3, 0), (13, 3, 1), (16, 3, 2), (19, 3, 3), (22, 3, 5), (25, 3, 7), (29, 3, 9), (34, 3, 12), (38, 3, 13), (41, 3, 14), (45, 3, 18), (48, 3, 4), (51, 3, 17), (54, 3, 15), (57, 3, 16), (182, 3, 8), (198, 3, 10), (201, 3, 11), (269, 3, 6)]
theorem FK42_0_ok (X : XT) : ∀ r ∈ FK42_0, FS (mkG X) (cn 42) r.1 r.2.1 r.2.2 := (List.forall_mem_cons.mpr ⟨⟨"TheatreSagaModel", "TheatreSagaModel", TX4, 19, rfl, Nat.le_of_ble_eq_true rfl, Or.inl q2391, Or.inl rfl, in_X4⟩, (List.forall_mem_cons.mpr ⟨⟨"TheatreSagaModel", "TheatreSagaModel", TX4, 19, rfl, Nat.le_of_ble_eq_true rfl, Or.inl q2392, Or.inl rfl, in_X4⟩, (List.forall_mem_cons.mpr ⟨⟨"TheatreSagaModel", "TheatreSagaModel", TX4, 19, rfl, Nat.le_of_ble_eq_true rfl, Or.inl q2393, Or.inl rfl, in_X4⟩, (List.forall_mem_cons.mpr ⟨⟨"TheatreSagaModel", "TheatreSagaModel", TX4, 19, rfl, Nat.le_of_ble_eq_true rfl, Or.inl q2394, Or.inl rfl, in_X4⟩, (List.forall_mem_cons.mpr ⟨⟨"TheatreSagaModel", "TheatreSagaModel", TX4, 19, rfl, Nat.le_of_ble_eq_true rfl, Or.inl q2396, Or.inl rfl, in_X4⟩, (List.forall_mem_cons.mpr ⟨⟨"TheatreSagaModel", "TheatreSagaModel", TX4, 19, rfl, Nat.le_of_ble_eq_true rfl, Or.inl q2398, Or.inl rfl, in_X4⟩, (List.forall_mem_cons.mpr ⟨⟨"TheatreSagaModel", "TheatreSagaModel", TX4, 19, rfl, Nat.le_of_ble_eq_true rfl, Or.inl q2400, Or.inl rfl, in_X4⟩, (List.forall_mem_cons.mpr ⟨⟨"TheatreSagaModel", "TheatreSagaModel", TX4, 19, rfl, Nat.le_of_ble_eq_true rfl, Or.inl q2403, Or.inl rfl, in_X4⟩, (List.forall_mem_cons.mpr ⟨⟨"TheatreSagaModel", "TheatreSagaModel", TX4, 19, rfl, Nat.le_of_ble_eq_true rfl, Or.inl q2404, Or.inl rfl, in_X4⟩, (List.forall_mem_cons.mpr ⟨⟨"TheatreSagaModel", "TheatreSagaModel", TX4, 19, rfl, Nat.le_of_ble_eq_true rfl, Or.inl q2405, Or.inl rfl, in_X4⟩, (List.forall_mem_cons.mpr ⟨⟨"TheatreSagaModel", "TheatreSagaModel", TX4, 19, rfl, Nat.le_of_ble_eq_true rfl, Or.inl q2409, Or.inl rfl, in_X4⟩, (List.forall_mem_cons.mpr ⟨⟨"TheatreSagaModel", "TheatreSagaModel", TX4, 19, rfl, Nat.le_of_ble_eq_true rfl, Or.inl q2395, Or.inl rfl, in_X4⟩, (List.forall_mem_cons.mpr ⟨⟨"TheatreSagaModel", "TheatreSagaModel", TX4, 19, rfl, Nat.le_of_ble_eq_true rfl, Or.inl q2408, Or.inl rfl, in_X4⟩, (List.forall_mem_cons.mpr ⟨⟨"TheatreSagaModel", "TheatreSagaModel", TX4, 19, rfl, Nat.le_of_ble_eq_true rfl, Or.inl q2406, Or.inl rfl, in_X4⟩, (List.forall_mem_cons.mpr ⟨⟨"TheatreSagaModel", "TheatreSagaModel", TX4, 19, rfl, Nat.le_of_ble_eq_true rfl, Or.inl q2407, Or.inl rfl, in_X4⟩, (List.forall_mem_cons.mpr ⟨⟨"TheatreSagaModel", "TheatreSagaModel", TX4, 19, rfl, Nat.le_of_ble_eq_true rfl, Or.inl q2399, Or.inl rfl, in_X4⟩, (List.forall_mem_cons.mpr ⟨⟨"TheatreSagaModel", "TheatreSagaModel", TX4, 19, rfl, Nat.le_of_ble_eq_true rfl, Or.inl q2401, Or.inl rfl, in_X4⟩, (List.forall_mem_cons.mpr ⟨⟨"TheatreSagaModel", "TheatreSagaModel", TX4, 19, rfl, Nat.le_of_ble_eq_true rfl, Or.inl q2402, Or.inl rfl, in_X4⟩, (List.forall_mem_cons.mpr ⟨⟨"TheatreSagaModel", "TheatreSagaModel", TX4, 19, rfl, Nat.le_of_ble_eq_true rfl, Or.inl q2397, Or.inl rfl, in_X4⟩, (fun _ h => nomatch h)⟩)⟩)⟩)⟩)⟩)⟩)⟩)⟩)⟩)⟩)⟩)⟩)⟩)⟩)⟩)⟩)⟩)⟩)⟩)
def FK42 : List (Nat × Nat × Nat) := FK42_0
theorem FK42_ok (X : XT) : ∀ r ∈ FK42, FS (mkG X) (cn 42) r.1 r.2.1 r.2.2 := FK42_0_ok X
def FK2_0 : List (Nat × Nat × Nat) := [(15, 13, 0), (22, 13, 1), (73, 13, 2), (79, 13, 3)]
theorem FK2_0_ok (X : XT) : ∀ r ∈ FK2_0, FS (mkG X) (cn 2) r.1 r.2.1 r.2.2 := (List.forall_mem_cons.mpr ⟨⟨"java/lang/StringBuilder", "java/lang/AbstractStringBuilder", TJ3, 4, rfl, Nat.le_of_ble_eq_true rfl, Or.inl q173, Or.inl rfl, in_J3⟩, (List.forall_mem_cons.mpr ⟨⟨"java/lang/StringBuilder", "java/lang/AbstractStringBuilder", TJ3, 4, rfl, Nat.le_of_ble_eq_true rfl, Or.inl q174, Or.inl rfl, in_J3⟩, (List.forall_mem_cons.mpr ⟨⟨"java/lang/StringBuilder", "java/lang/AbstractStringBuilder", TJ3, 4, rfl, Nat.le_of_ble_eq_true rfl, Or.inl q175, Or.inl rfl, in_J3⟩, (List.forall_mem_cons.mpr ⟨⟨"java/lang/StringBuilder", "java/lang/AbstractStringBuilder", TJ3, 4, rfl, Nat.le_of_ble_eq_true rfl, Or.inl q177, Or.inl rfl, in_J3⟩, (fun _ h => nomatch h)⟩)⟩)⟩)⟩)
def FK2 : List (Nat × Nat × Nat) := FK2_0
theorem FK2_ok (X : XT) : ∀ r ∈ FK2, FS (mkG X) (cn 2) r.1 r.2.1 r.2.2 := FK2_0_ok X
def FK20_0 : List (Nat × Nat × Nat) := [(205, 20, 0)]
theorem FK20_0_ok (X : XT) : ∀ r ∈ FK20_0, FS (mkG X) (cn 20) r.1 r.2.1 r.2.2 := (List.forall_mem_cons.mpr ⟨⟨"java/lang/Integer", "java/lang/Integer", TJ20, 1, rfl, Nat.le_of_ble_eq_true rfl, Or.inl q1948, Or.inl rfl, in_J20⟩, (fun _ h => nomatch h)⟩)
def FK20 : List (Nat × Nat × Nat) := FK20_0
theorem FK20_ok (X : XT) : ∀ r ∈ FK20, FS (mkG X) (cn 20) r.1 r.2.1 r.2.2 := FK20_0_ok X
def FK4_0 : List (Nat × Nat × Nat) := [(9, 14, 0), (15, 14, 1), (19, 14, 2), (23, 14, 3), (1048, 13, 2)]
theorem FK4_0_ok (X : XT) : ∀ r ∈ FK4_0, FS (mkG X) (cn 4) r.1 r.2.1 r.2.2 := (List.forall_mem_cons.mpr ⟨⟨"java/lang/String", "java/lang/String", TJ4, 4, rfl, Nat.le_of_ble_eq_true rfl, Or.inl q790, Or.inl rfl, in_J4⟩, (List.forall_mem_cons.mpr ⟨⟨"java/lang/String", "java/lang/String", TJ4, 4, rfl, Nat.le_of_ble_eq_true rfl, Or.inl q791, Or.inl rfl, in_J4⟩, (List.forall_mem_cons.mpr ⟨⟨"java/lang/String", "java/lang/String", TJ4, 4, rfl, Nat.le_of_ble_eq_true rfl, Or.inl q792, Or.inl rfl, in_J4⟩, (List.forall_mem_cons.mpr ⟨⟨"java/lang/String", "java/lang/String", TJ4, 4, rfl, Nat.le_of_ble_eq_true rfl, Or.inl q793, Or.inl rfl, in_J4⟩, (List.forall_mem_cons.mpr ⟨⟨"java/lang/StringBuilder", "java/lang/AbstractStringBuilder", TJ3, 4, rfl, Nat.le_of_ble_eq_true rfl, Or.inl q176, Or.inl rfl, in_J3⟩, (fun _ h => nomatch h)⟩)⟩)⟩)⟩)⟩)
def FK4 : List (Nat × Nat × Nat) := FK4_0
theorem FK4_ok (X : XT) : ∀ r ∈ FK4, FS (mkG X) (cn 4) r.1 r.2.1 r.2.2 := FK4_0_ok X
def FK13_0 : List (Nat × Nat × Nat) := [(7, 6, 0), (7, 11, 0), (17, 6, 1), (17, 11, 1), (24, 6, 2), (24, 11, 2), (31, 6, 3), (31, 11, 3), (198, 6, 4), (198, 11, 4)]
theorem FK13_0_ok (X : XT) : ∀ r ∈ FK13_0, FS (mkG X) (cn 13) r.1 r.2.1 r.2.2 := (List.forall_mem_cons.mpr ⟨⟨"TheatreSaga$Refusal", "java/lang/Throwable", TX7, 8, rfl, Nat.le_of_ble_eq_true rfl, Or.inl q766, Or.inl rfl, in_X7⟩, (List.forall_mem_cons.mpr ⟨⟨"TheatreSaga$FaultException", "java/lang/Throwable", TX12, 7, rfl, Nat.le_of_ble_eq_true rfl, Or.inl q766, Or.inl rfl, in_X12⟩, (List.forall_mem_cons.mpr ⟨⟨"TheatreSaga$Refusal", "java/lang/Throwable", TX7, 8, rfl, Nat.le_of_ble_eq_true rfl, Or.inl q767, Or.inl rfl, in_X7⟩, (List.forall_mem_cons.mpr ⟨⟨"TheatreSaga$FaultException", "java/lang/Throwable", TX12, 7, rfl, Nat.le_of_ble_eq_true rfl, Or.inl q767, Or.inl rfl, in_X12⟩, (List.forall_mem_cons.mpr ⟨⟨"TheatreSaga$Refusal", "java/lang/Throwable", TX7, 8, rfl, Nat.le_of_ble_eq_true rfl, Or.inl q768, Or.inl rfl, in_X7⟩, (List.forall_mem_cons.mpr ⟨⟨"TheatreSaga$FaultException", "java/lang/Throwable", TX12, 7, rfl, Nat.le_of_ble_eq_true rfl, Or.inl q768, Or.inl rfl, in_X12⟩, (List.forall_mem_cons.mpr ⟨⟨"TheatreSaga$Refusal", "java/lang/Throwable", TX7, 8, rfl, Nat.le_of_ble_eq_true rfl, Or.inl q765, Or.inl rfl, in_X7⟩, (List.forall_mem_cons.mpr ⟨⟨"TheatreSaga$FaultException", "java/lang/Throwable", TX12, 7, rfl, Nat.le_of_ble_eq_true rfl, Or.inl q765, Or.inl rfl, in_X12⟩, (List.forall_mem_cons.mpr ⟨⟨"TheatreSaga$Refusal", "java/lang/Throwable", TX7, 8, rfl, Nat.le_of_ble_eq_true rfl, Or.inl q764, Or.inl rfl, in_X7⟩, (List.forall_mem_cons.mpr ⟨⟨"TheatreSaga$FaultException", "java/lang/Throwable", TX12, 7, rfl, Nat.le_of_ble_eq_true rfl, Or.inl q764, Or.inl rfl, in_X12⟩, (fun _ h => nomatch h)⟩)⟩)⟩)⟩)⟩)⟩)⟩)⟩)⟩)⟩)
def FK13 : List (Nat × Nat × Nat) := FK13_0
theorem FK13_ok (X : XT) : ∀ r ∈ FK13, FS (mkG X) (cn 13) r.1 r.2.1 r.2.2 := FK13_0_ok X
def FK6_0 : List (Nat × Nat × Nat) := [(7, 15, 0), (7, 17, 0)]
theorem FK6_0_ok (X : XT) : ∀ r ∈ FK6_0, FS (mkG X) (cn 6) r.1 r.2.1 r.2.2 := (List.forall_mem_cons.mpr ⟨⟨"java/util/ArrayList", "java/util/AbstractList", TJ7, 3, rfl, Nat.le_of_ble_eq_true rfl, Or.inl q209, Or.inl rfl, in_J7⟩, (List.forall_mem_cons.mpr ⟨⟨"java/util/LinkedList", "java/util/AbstractList", TJ32, 4, rfl, Nat.le_of_ble_eq_true rfl, Or.inl q209, Or.inl rfl, in_J32⟩, (fun _ h => nomatch h)⟩)⟩)
def FK6 : List (Nat × Nat × Nat) := FK6_0
theorem FK6_ok (X : XT) : ∀ r ∈ FK6, FS (mkG X) (cn 6) r.1 r.2.1 r.2.2 := FK6_0_ok X
def FK22_0 : List (Nat × Nat × Nat) := [(20, 15, 0), (20, 17, 0)]
theorem FK22_0_ok (X : XT) : ∀ r ∈ FK22_0, FS (mkG X) (cn 22) r.1 r.2.1 r.2.2 := (List.forall_mem_cons.mpr ⟨⟨"java/util/ArrayList", "java/util/AbstractList", TJ7, 3, rfl, Nat.le_of_ble_eq_true rfl, Or.inl q214, Or.inl rfl, in_J7⟩, (List.forall_mem_cons.mpr ⟨⟨"java/util/LinkedList", "java/util/AbstractList", TJ32, 4, rfl, Nat.le_of_ble_eq_true rfl, Or.inl q214, Or.inl rfl, in_J32⟩, (fun _ h => nomatch h)⟩)⟩)
def FK22 : List (Nat × Nat × Nat) := FK22_0
theorem FK22_ok (X : XT) : ∀ r ∈ FK22, FS (mkG X) (cn 22) r.1 r.2.1 r.2.2 := FK22_0_ok X
def FK1_0 : List (Nat × Nat × Nat) := [(3, 12, 0), (20, 12, 2), (24, 12, 1)]
theorem FK1_0_ok (X : XT) : ∀ r ∈ FK1_0, FS (mkG X) (cn 1) r.1 r.2.1 r.2.2 := (List.forall_mem_cons.mpr ⟨⟨"java/util/ArrayDeque", "java/util/ArrayDeque", TJ1, 3, rfl, Nat.le_of_ble_eq_true rfl, Or.inl q145, Or.inl rfl, in_J1⟩, (List.forall_mem_cons.mpr ⟨⟨"java/util/ArrayDeque", "java/util/ArrayDeque", TJ1, 3, rfl, Nat.le_of_ble_eq_true rfl, Or.inl q147, Or.inl rfl, in_J1⟩, (List.forall_mem_cons.mpr ⟨⟨"java/util/ArrayDeque", "java/util/ArrayDeque", TJ1, 3, rfl, Nat.le_of_ble_eq_true rfl, Or.inl q146, Or.inl rfl, in_J1⟩, (fun _ h => nomatch h)⟩)⟩)⟩)
def FK1 : List (Nat × Nat × Nat) := FK1_0
theorem FK1_ok (X : XT) : ∀ r ∈ FK1, FS (mkG X) (cn 1) r.1 r.2.1 r.2.2 := FK1_0_ok X
def FK7_0 : List (Nat × Nat × Nat) := [(9, 15, 1), (48, 15, 2), (63, 15, 0), (63, 17, 0)]
theorem FK7_0_ok (X : XT) : ∀ r ∈ FK7_0, FS (mkG X) (cn 7) r.1 r.2.1 r.2.2 := (List.forall_mem_cons.mpr ⟨⟨"java/util/ArrayList", "java/util/ArrayList", TJ7, 3, rfl, Nat.le_of_ble_eq_true rfl, Or.inl q205, Or.inl rfl, in_J7⟩, (List.forall_mem_cons.mpr ⟨⟨"java/util/ArrayList", "java/util/ArrayList", TJ7, 3, rfl, Nat.le_of_ble_eq_true rfl, Or.inl q208, Or.inl rfl, in_J7⟩, (List.forall_mem_cons.mpr ⟨⟨"java/util/ArrayList", "java/util/ArrayList", TJ7, 3, rfl, Nat.le_of_ble_eq_true rfl, Or.inl q216, Or.inr q213, in_J7⟩, (List.forall_mem_cons.mpr ⟨⟨"java/util/LinkedList", "java/util/ArrayList", TJ32, 4, rfl, Nat.le_of_ble_eq_true rfl, Or.inl q216, Or.inr q213, in_J32⟩, (fun _ h => nomatch h)⟩)⟩)⟩)⟩)
def FK7 : List (Nat × Nat × Nat) := FK7_0
theorem FK7_ok (X : XT) : ∀ r ∈ FK7, FS (mkG X) (cn 7) r.1 r.2.1 r.2.2 := FK7_0_ok X
def FK12_0 : List (Nat × Nat × Nat) := [(1, 16, 3), (13, 16, 1), (17, 15, 0), (17, 17, 0), (22, 16, 2), (25, 16, 0), (28, 15, 2), (37, 15, 1)]
theorem FK12_0_ok (X : XT) : ∀ r ∈ FK12_0, FS (mkG X) (cn 12) r.1 r.2.1 r.2.2 := (List.forall_mem_cons.mpr ⟨⟨"java/util/ArrayList$Itr", "java/util/ArrayList$Itr", TJ12, 4, rfl, Nat.le_of_ble_eq_true rfl, Or.inl q484, Or.inl rfl, in_J12⟩, (List.forall_mem_cons.mpr ⟨⟨"java/util/ArrayList$Itr", "java/util/ArrayList$Itr", TJ12, 4, rfl, Nat.le_of_ble_eq_true rfl, Or.inl q482, Or.inl rfl, in_J12⟩, (List.forall_mem_cons.mpr ⟨⟨"java/util/ArrayList", "java/util/ArrayList", TJ7, 3, rfl, Nat.le_of_ble_eq_true rfl, Or.inl q212, Or.inr q213, in_J7⟩, (List.forall_mem_cons.mpr ⟨⟨"java/util/LinkedList", "java/util/ArrayList", TJ32, 4, rfl, Nat.le_of_ble_eq_true rfl, Or.inl q212, Or.inr q213, in_J32⟩, (List.forall_mem_cons.mpr ⟨⟨"java/util/ArrayList$Itr", "java/util/ArrayList$Itr", TJ12, 4, rfl, Nat.le_of_ble_eq_true rfl, Or.inl q483, Or.inl rfl, in_J12⟩, (List.forall_mem_cons.mpr ⟨⟨"java/util/ArrayList$Itr", "java/util/ArrayList$Itr", TJ12, 4, rfl, Nat.le_of_ble_eq_true rfl, Or.inl q481, Or.inl rfl, in_J12⟩, (List.forall_mem_cons.mpr ⟨⟨"java/util/ArrayList", "java/util/ArrayList", TJ7, 3, rfl, Nat.le_of_ble_eq_true rfl, Or.inr ⟨"java/util/ArrayList", (List.mem_of_getElem? (i := 0) rfl)⟩, Or.inl rfl, in_J7⟩, (List.forall_mem_cons.mpr ⟨⟨"java/util/ArrayList", "java/util/ArrayList", TJ7, 3, rfl, Nat.le_of_ble_eq_true rfl, Or.inl q206, Or.inl rfl, in_J7⟩, (fun _ h => nomatch h)⟩)⟩)⟩)⟩)⟩)⟩)⟩)⟩)
def FK12 : List (Nat × Nat × Nat) := FK12_0
theorem FK12_ok (X : XT) : ∀ r ∈ FK12, FS (mkG X) (cn 12) r.1 r.2.1 r.2.2 := FK12_0_ok X
def FK23_0 : List (Nat × Nat × Nat) := [(13, 16, 0)]
theorem FK23_0_ok (X : XT) : ∀ r ∈ FK23_0, FS (mkG X) (cn 23) r.1 r.2.1 r.2.2 := (List.forall_mem_cons.mpr ⟨⟨"java/util/ArrayList$Itr", "java/util/ArrayList$ListItr", TJ12, 4, rfl, Nat.le_of_ble_eq_true rfl, Or.inl q479, Or.inr q480, in_J12⟩, (fun _ h => nomatch h)⟩)
def FK23 : List (Nat × Nat × Nat) := FK23_0
theorem FK23_ok (X : XT) : ∀ r ∈ FK23, FS (mkG X) (cn 23) r.1 r.2.1 r.2.2 := FK23_0_ok X
def FK32_0 : List (Nat × Nat × Nat) := [(7, 17, 1), (18, 17, 2), (27, 17, 3), (30, 18, 2), (33, 15, 0), (33, 17, 0), (36, 18, 1), (39, 18, 0)]
theorem FK32_0_ok (X : XT) : ∀ r ∈ FK32_0, FS (mkG X) (cn 32) r.1 r.2.1 r.2.2 := (List.forall_mem_cons.mpr ⟨⟨"java/util/LinkedList", "java/util/LinkedList", TJ32, 4, rfl, Nat.le_of_ble_eq_true rfl, Or.inl q1909, Or.inl rfl, in_J32⟩, (List.forall_mem_cons.mpr ⟨⟨"java/util/LinkedList", "java/util/LinkedList", TJ32, 4, rfl, Nat.le_of_ble_eq_true rfl, Or.inl q1911, Or.inl rfl, in_J32⟩, (List.forall_mem_cons.mpr ⟨⟨"java/util/LinkedList", "java/util/LinkedList", TJ32, 4, rfl, Nat.le_of_ble_eq_true rfl, Or.inl q1912, Or.inl rfl, in_J32⟩, (List.forall_mem_cons.mpr ⟨⟨"java/util/LinkedList$Node", "java/util/LinkedList$Node", TJ11, 3, rfl, Nat.le_of_ble_eq_true rfl, Or.inl q360, Or.inl rfl, in_J11⟩, (List.forall_mem_cons.mpr ⟨⟨"java/util/ArrayList", "java/util/LinkedList", TJ7, 3, rfl, Nat.le_of_ble_eq_true rfl, Or.inl q215, Or.inr q211, in_J7⟩, (List.forall_mem_cons.mpr ⟨⟨"java/util/LinkedList", "java/util/LinkedList", TJ32, 4, rfl, Nat.le_of_ble_eq_true rfl, Or.inl q215, Or.inr q211, in_J32⟩, (List.forall_mem_cons.mpr ⟨⟨"java/util/LinkedList$Node", "java/util/LinkedList$Node", TJ11, 3, rfl, Nat.le_of_ble_eq_true rfl, Or.inl q358, Or.inl rfl, in_J11⟩, (List.forall_mem_cons.mpr ⟨⟨"java/util/LinkedList$Node", "java/util/LinkedList$Node", TJ11, 3, rfl, Nat.le_of_ble_eq_true rfl, Or.inl q355, Or.inl rfl, in_J11⟩, (fun _ h => nomatch h)⟩)⟩)⟩)⟩)⟩)⟩)⟩)⟩)
def FK32 : List (Nat × Nat × Nat) := FK32_0
theorem FK32_ok (X : XT) : ∀ r ∈ FK32, FS (mkG X) (cn 32) r.1 r.2.1 r.2.2 := FK32_0_ok X
def FK24_0 : List (Nat × Nat × Nat) := [(1, 19, 4), (13, 15, 0), (13, 17, 0), (19, 19, 3), (22, 17, 1), (29, 19, 1), (33, 19, 2), (46, 19, 0), (49, 18, 1), (52, 18, 0)]
theorem FK24_0_ok (X : XT) : ∀ r ∈ FK24_0, FS (mkG X) (cn 24) r.1 r.2.1 r.2.2 := (List.forall_mem_cons.mpr ⟨⟨"java/util/LinkedList$ListItr", "java/util/LinkedList$ListItr", TJ24, 5, rfl, Nat.le_of_ble_eq_true rfl, Or.inl q862, Or.inl rfl, in_J24⟩, (List.forall_mem_cons.mpr ⟨⟨"java/util/ArrayList", "java/util/LinkedList", TJ7, 3, rfl, Nat.le_of_ble_eq_true rfl, Or.inl q210, Or.inr q211, in_J7⟩, (List.forall_mem_cons.mpr ⟨⟨"java/util/LinkedList", "java/util/LinkedList", TJ32, 4, rfl, Nat.le_of_ble_eq_true rfl, Or.inl q210, Or.inr q211, in_J32⟩, (List.forall_mem_cons.mpr ⟨⟨"java/util/LinkedList$ListItr", "java/util/LinkedList$ListItr", TJ24, 5, rfl, Nat.le_of_ble_eq_true rfl, Or.inl q861, Or.inl rfl, in_J24⟩, (List.forall_mem_cons.mpr ⟨⟨"java/util/LinkedList", "java/util/LinkedList", TJ32, 4, rfl, Nat.le_of_ble_eq_true rfl, Or.inl q1910, Or.inl rfl, in_J32⟩, (List.forall_mem_cons.mpr ⟨⟨"java/util/LinkedList$ListItr", "java/util/LinkedList$ListItr", TJ24, 5, rfl, Nat.le_of_ble_eq_true rfl, Or.inl q859, Or.inl rfl, in_J24⟩, (List.forall_mem_cons.mpr ⟨⟨"java/util/LinkedList$ListItr", "java/util/LinkedList$ListItr", TJ24, 5, rfl, Nat.le_of_ble_eq_true rfl, Or.inl q860, Or.inl rfl, in_J24⟩, (List.forall_mem_cons.mpr ⟨⟨"java/util/LinkedList$ListItr", "java/util/LinkedList$ListItr", TJ24, 5, rfl, Nat.le_of_ble_eq_true rfl, Or.inl q858, Or.inl rfl, in_J24⟩, (List.forall_mem_cons.mpr ⟨⟨"java/util/LinkedList$Node", "java/util/LinkedList$Node", TJ11, 3, rfl, Nat.le_of_ble_eq_true rfl, Or.inl q357, Or.inl rfl, in_J11⟩, (List.forall_mem_cons.mpr ⟨⟨"java/util/LinkedList$Node", "java/util/LinkedList$Node", TJ11, 3, rfl, Nat.le_of_ble_eq_true rfl, Or.inl q354, Or.inl rfl, in_J11⟩, (fun _ h => nomatch h)⟩)⟩)⟩)⟩)⟩)⟩)⟩)⟩)⟩)⟩)
def FK24 : List (Nat × Nat × Nat) := FK24_0
theorem FK24_ok (X : XT) : ∀ r ∈ FK24, FS (mkG X) (cn 24) r.1 r.2.1 r.2.2 := FK24_0_ok X
def FK11_0 : List (Nat × Nat × Nat) := [(7, 18, 0), (13, 18, 1), (17, 18, 2)]
theorem FK11_0_ok (X : XT) : ∀ r ∈ FK11_0, FS (mkG X) (cn 11) r.1 r.2.1 r.2.2 := (List.forall_mem_cons.mpr ⟨⟨"java/util/LinkedList$Node", "java/util/LinkedList$Node", TJ11, 3, rfl, Nat.le_of_ble_eq_true rfl, Or.inl q353, Or.inl rfl, in_J11⟩, (List.forall_mem_cons.mpr ⟨⟨"java/util/LinkedList$Node", "java/util/LinkedList$Node", TJ11, 3, rfl, Nat.le_of_ble_eq_true rfl, Or.inl q356, Or.inl rfl, in_J11⟩, (List.forall_mem_cons.mpr ⟨⟨"java/util/LinkedList$Node", "java/util/LinkedList$Node", TJ11, 3, rfl, Nat.le_of_ble_eq_true rfl, Or.inl q359, Or.inl rfl, in_J11⟩, (fun _ h => nomatch h)⟩)⟩)⟩)
def FK11 : List (Nat × Nat × Nat) := FK11_0
theorem FK11_ok (X : XT) : ∀ r ∈ FK11, FS (mkG X) (cn 11) r.1 r.2.1 r.2.2 := FK11_0_ok X
def FKT : Nat → List (Nat × Nat × Nat)
  | 39 => FK39a
  | 48 => FK48
  | 44 => FK44
  | 50 => FK50
  | 49 => FK49
  | 45 => FK45
  | 46 => FK46
  | 40 => FK40
  | 43 => FK43
  | 41 => FK41
  | 47 => FK47
  | 42 => FK42
  | 2 => FK2
  | 20 => FK20
  | 4 => FK4
  | 13 => FK13
  | 6 => FK6
  | 22 => FK22
  | 1 => FK1
  | 7 => FK7
  | 12 => FK12
  | 23 => FK23
  | 32 => FK32
  | 24 => FK24
  | 11 => FK11
  | _ => []
def FK (o i c : Nat) : Option (Nat) := lk (FKT o) i c
theorem FK_ok (X : XT) (o : Nat) : ∀ r ∈ FKT o, FS (mkG X) (cn o) r.1 r.2.1 r.2.2 := by
  unfold FKT
  split
  · exact FK39_ok X
  · exact FK48_ok X
  · exact FK44_ok X
  · exact FK50_ok X
  · exact FK49_ok X
  · exact FK45_ok X
  · exact FK46_ok X
  · exact FK40_ok X
  · exact FK43_ok X
  · exact FK41_ok X
  · exact FK47_ok X
  · exact FK42_ok X
  · exact FK2_ok X
  · exact FK20_ok X
  · exact FK4_ok X
  · exact FK13_ok X
  · exact FK6_ok X
  · exact FK22_ok X
  · exact FK1_ok X
  · exact FK7_ok X
  · exact FK12_ok X
  · exact FK23_ok X
  · exact FK32_ok X
  · exact FK24_ok X
  · exact FK11_ok X
  · exact fun _ h => nomatch h
theorem fk_39_29_0 : FK 39 29 0 = some (1) := rfl
theorem fk_39_36_0 : FK 39 36 0 = some (2) := rfl
theorem fk_39_43_0 : FK 39 43 0 = some (0) := rfl
theorem fk_39_49_0 : FK 39 49 0 = some (3) := rfl
theorem fk_39_53_0 : FK 39 53 0 = some (4) := rfl
theorem fk_39_72_6 : FK 39 72 6 = some (6) := rfl
theorem fk_39_75_0 : FK 39 75 0 = some (5) := rfl
theorem fk_39_76_6 : FK 39 76 6 = some (7) := rfl
theorem fk_39_79_0 : FK 39 79 0 = some (6) := rfl
theorem fk_39_104_1 : FK 39 104 1 = some (0) := rfl
theorem fk_39_137_4 : FK 39 137 4 = some (4) := rfl
theorem fk_39_140_4 : FK 39 140 4 = some (1) := rfl
theorem fk_39_143_4 : FK 39 143 4 = some (2) := rfl
theorem fk_39_149_4 : FK 39 149 4 = some (5) := rfl
theorem fk_39_152_4 : FK 39 152 4 = some (6) := rfl
theorem fk_39_155_4 : FK 39 155 4 = some (7) := rfl
theorem fk_39_158_4 : FK 39 158 4 = some (8) := rfl
theorem fk_39_161_4 : FK 39 161 4 = some (9) := rfl
theorem fk_39_164_4 : FK 39 164 4 = some (10) := rfl
theorem fk_39_181_4 : FK 39 181 4 = some (3) := rfl
theorem fk_39_211_1 : FK 39 211 1 = some (1) := rfl
theorem fk_39_216_2 : FK 39 216 2 = some (0) := rfl
theorem fk_39_220_2 : FK 39 220 2 = some (1) := rfl
theorem fk_39_227_2 : FK 39 227 2 = some (2) := rfl
theorem fk_39_281_9 : FK 39 281 9 = some (0) := rfl
theorem fk_39_336_1 : FK 39 336 1 = some (2) := rfl
theorem fk_39_342_1 : FK 39 342 1 = some (3) := rfl
theorem fk_39_345_1 : FK 39 345 1 = some (4) := rfl
theorem fk_39_346_1 : FK 39 346 1 = some (5) := rfl
theorem fk_39_348_1 : FK 39 348 1 = some (6) := rfl
theorem fk_39_351_1 : FK 39 351 1 = some (7) := rfl
theorem fk_39_354_1 : FK 39 354 1 = some (8) := rfl
theorem fk_39_357_1 : FK 39 357 1 = some (9) := rfl
theorem fk_39_392_11 : FK 39 392 11 = some (6) := rfl
theorem fk_39_406_0 : FK 39 406 0 = some (7) := rfl
theorem fk_48_3_9 : FK 48 3 9 = some (4) := rfl
theorem fk_48_9_9 : FK 48 9 9 = some (1) := rfl
theorem fk_48_13_9 : FK 48 13 9 = some (2) := rfl
theorem fk_48_16_9 : FK 48 16 9 = some (3) := rfl
theorem fk_48_25_9 : FK 48 25 9 = some (0) := rfl
theorem fk_48_28_0 : FK 48 28 0 = some (0) := rfl
theorem fk_48_32_1 : FK 48 32 1 = some (1) := rfl
theorem fk_48_46_2 : FK 48 46 2 = some (0) := rfl
theorem fk_48_54_2 : FK 48 54 2 = some (1) := rfl
theorem fk_44_9_5 : FK 44 9 5 = some (0) := rfl
theorem fk_44_15_5 : FK 44 15 5 = some (1) := rfl
theorem fk_44_69_1 : FK 44 69 1 = some (0) := rfl
theorem fk_50_7_11 : FK 50 7 11 = some (6) := rfl
theorem fk_49_1_10 : FK 49 1 10 = some (1) := rfl
theorem fk_49_13_10 : FK 49 13 10 = some (0) := rfl
theorem fk_49_17_0 : FK 49 17 0 = some (2) := rfl
theorem fk_45_7_6 : FK 45 7 6 = some (6) := rfl
theorem fk_45_13_6 : FK 45 13 6 = some (7) := rfl
theorem fk_46_9_7 : FK 46 9 7 = some (0) := rfl
theorem fk_46_15_7 : FK 46 15 7 = some (1) := rfl
theorem fk_46_18_7 : FK 46 18 7 = some (2) := rfl
theorem fk_46_21_7 : FK 46 21 7 = some (3) := rfl
theorem fk_40_12_1 : FK 40 12 1 = some (0) := rfl
theorem fk_40_18_1 : FK 40 18 1 = some (1) := rfl
theorem fk_40_21_1 : FK 40 21 1 = some (3) := rfl
theorem fk_40_56_1 : FK 40 56 1 = some (2) := rfl
theorem fk_40_59_1 : FK 40 59 1 = some (4) := rfl
theorem fk_40_62_1 : FK 40 62 1 = some (5) := rfl
theorem fk_40_65_1 : FK 40 65 1 = some (6) := rfl
theorem fk_40_68_1 : FK 40 68 1 = some (7) := rfl
theorem fk_40_71_1 : FK 40 71 1 = some (8) := rfl
theorem fk_40_74_1 : FK 40 74 1 = some (9) := rfl
theorem fk_40_108_2 : FK 40 108 2 = some (1) := rfl
theorem fk_40_143_4 : FK 40 143 4 = some (4) := rfl
theorem fk_40_152_2 : FK 40 152 2 = some (0) := rfl
theorem fk_40_170_4 : FK 40 170 4 = some (5) := rfl
theorem fk_43_3_4 : FK 43 3 4 = some (11) := rfl
theorem fk_43_18_4 : FK 43 18 4 = some (2) := rfl
theorem fk_43_22_4 : FK 43 22 4 = some (3) := rfl
theorem fk_43_26_4 : FK 43 26 4 = some (0) := rfl
theorem fk_43_30_4 : FK 43 30 4 = some (1) := rfl
theorem fk_43_48_4 : FK 43 48 4 = some (4) := rfl
theorem fk_43_51_4 : FK 43 51 4 = some (5) := rfl
theorem fk_43_54_4 : FK 43 54 4 = some (6) := rfl
theorem fk_43_57_4 : FK 43 57 4 = some (7) := rfl
theorem fk_43_60_4 : FK 43 60 4 = some (8) := rfl
theorem fk_43_63_4 : FK 43 63 4 = some (9) := rfl
theorem fk_43_66_4 : FK 43 66 4 = some (10) := rfl
theorem fk_43_127_1 : FK 43 127 1 = some (1) := rfl
theorem fk_43_150_2 : FK 43 150 2 = some (0) := rfl
theorem fk_43_158_1 : FK 43 158 1 = some (3) := rfl
theorem fk_43_161_1 : FK 43 161 1 = some (4) := rfl
theorem fk_43_164_2 : FK 43 164 2 = some (2) := rfl
theorem fk_43_172_1 : FK 43 172 1 = some (6) := rfl
theorem fk_43_178_1 : FK 43 178 1 = some (5) := rfl
theorem fk_43_184_1 : FK 43 184 1 = some (8) := rfl
theorem fk_43_187_1 : FK 43 187 1 = some (9) := rfl
theorem fk_41_9_2 : FK 41 9 2 = some (3) := rfl
theorem fk_41_15_2 : FK 41 15 2 = some (1) := rfl
theorem fk_41_20_2 : FK 41 20 2 = some (0) := rfl
theorem fk_41_24_2 : FK 41 24 2 = some (2) := rfl
theorem fk_47_20_8 : FK 47 20 8 = some (0) := rfl
theorem fk_47_24_8 : FK 47 24 8 = some (2) := rfl
theorem fk_47_28_8 : FK 47 28 8 = some (1) := rfl
theorem fk_47_31_8 : FK 47 31 8 = some (3) := rfl
theorem fk_42_9_3 : FK 42 9 3 = some (0) := rfl
theorem fk_42_13_3 : FK 42 13 3 = some (1) := rfl
theorem fk_42_16_3 : FK 42 16 3 = some (2) := rfl
theorem fk_42_19_3 : FK 42 19 3 = some (3) := rfl
theorem fk_42_22_3 : FK 42 22 3 = some (5) := rfl
theorem fk_42_25_3 : FK 42 25 3 = some (7) := rfl
theorem fk_42_29_3 : FK 42 29 3 = some (9) := rfl
theorem fk_42_34_3 : FK 42 34 3 = some (12) := rfl
theorem fk_42_38_3 : FK 42 38 3 = some (13) := rfl
theorem fk_42_41_3 : FK 42 41 3 = some (14) := rfl
theorem fk_42_45_3 : FK 42 45 3 = some (18) := rfl
theorem fk_42_48_3 : FK 42 48 3 = some (4) := rfl
theorem fk_42_51_3 : FK 42 51 3 = some (17) := rfl
theorem fk_42_54_3 : FK 42 54 3 = some (15) := rfl
theorem fk_42_57_3 : FK 42 57 3 = some (16) := rfl
theorem fk_42_182_3 : FK 42 182 3 = some (8) := rfl
theorem fk_42_198_3 : FK 42 198 3 = some (10) := rfl
theorem fk_42_201_3 : FK 42 201 3 = some (11) := rfl
theorem fk_42_269_3 : FK 42 269 3 = some (6) := rfl
theorem fk_2_15_13 : FK 2 15 13 = some (0) := rfl
theorem fk_2_22_13 : FK 2 22 13 = some (1) := rfl
theorem fk_2_73_13 : FK 2 73 13 = some (2) := rfl
theorem fk_2_79_13 : FK 2 79 13 = some (3) := rfl
theorem fk_20_205_20 : FK 20 205 20 = some (0) := rfl
theorem fk_4_9_14 : FK 4 9 14 = some (0) := rfl
theorem fk_4_15_14 : FK 4 15 14 = some (1) := rfl
theorem fk_4_19_14 : FK 4 19 14 = some (2) := rfl
theorem fk_4_23_14 : FK 4 23 14 = some (3) := rfl
theorem fk_4_1048_13 : FK 4 1048 13 = some (2) := rfl
theorem fk_13_7_6 : FK 13 7 6 = some (0) := rfl
theorem fk_13_7_11 : FK 13 7 11 = some (0) := rfl
theorem fk_13_17_6 : FK 13 17 6 = some (1) := rfl
theorem fk_13_17_11 : FK 13 17 11 = some (1) := rfl
theorem fk_13_24_6 : FK 13 24 6 = some (2) := rfl
theorem fk_13_24_11 : FK 13 24 11 = some (2) := rfl
theorem fk_13_31_6 : FK 13 31 6 = some (3) := rfl
theorem fk_13_31_11 : FK 13 31 11 = some (3) := rfl
theorem fk_13_198_6 : FK 13 198 6 = some (4) := rfl
theorem fk_13_198_11 : FK 13 198 11 = some (4) := rfl
theorem fk_6_7_15 : FK 6 7 15 = some (0) := rfl
theorem fk_6_7_17 : FK 6 7 17 = some (0) := rfl
theorem fk_22_20_15 : FK 22 20 15 = some (0) := rfl
theorem fk_22_20_17 : FK 22 20 17 = some (0) := rfl
theorem fk_1_3_12 : FK 1 3 12 = some (0) := rfl
theorem fk_1_20_12 : FK 1 20 12 = some (2) := rfl
theorem fk_1_24_12 : FK 1 24 12 = some (1) := rfl
theorem fk_7_9_15 : FK 7 9 15 = some (1) := rfl
theorem fk_7_48_15 : FK 7 48 15 = some (2) := rfl
theorem fk_7_63_15 : FK 7 63 15 = some (0) := rfl
theorem fk_7_63_17 : FK 7 63 17 = some (0) := rfl
theorem fk_12_1_16 : FK 12 1 16 = some (3) := rfl
theorem fk_12_13_16 : FK 12 13 16 = some (1) := rfl
theorem fk_12_17_15 : FK 12 17 15 = some (0) := rfl
theorem fk_12_17_17 : FK 12 17 17 = some (0) := rfl
theorem fk_12_22_16 : FK 12 22 16 = some (2) := rfl
theorem fk_12_25_16 : FK 12 25 16 = some (0) := rfl
theorem fk_12_28_15 : FK 12 28 15 = some (2) := rfl
theorem fk_12_37_15 : FK 12 37 15 = some (1) := rfl
theorem fk_23_13_16 : FK 23 13 16 = some (0) := rfl
theorem fk_32_7_17 : FK 32 7 17 = some (1) := rfl
theorem fk_32_18_17 : FK 32 18 17 = some (2) := rfl
theorem fk_32_27_17 : FK 32 27 17 = some (3) := rfl
theorem fk_32_30_18 : FK 32 30 18 = some (2) := rfl
theorem fk_32_33_15 : FK 32 33 15 = some (0) := rfl
theorem fk_32_33_17 : FK 32 33 17 = some (0) := rfl
theorem fk_32_36_18 : FK 32 36 18 = some (1) := rfl
theorem fk_32_39_18 : FK 32 39 18 = some (0) := rfl
theorem fk_24_1_19 : FK 24 1 19 = some (4) := rfl
theorem fk_24_13_15 : FK 24 13 15 = some (0) := rfl
theorem fk_24_13_17 : FK 24 13 17 = some (0) := rfl
theorem fk_24_19_19 : FK 24 19 19 = some (3) := rfl
theorem fk_24_22_17 : FK 24 22 17 = some (1) := rfl
theorem fk_24_29_19 : FK 24 29 19 = some (1) := rfl
theorem fk_24_33_19 : FK 24 33 19 = some (2) := rfl
theorem fk_24_46_19 : FK 24 46 19 = some (0) := rfl
theorem fk_24_49_18 : FK 24 49 18 = some (1) := rfl
theorem fk_24_52_18 : FK 24 52 18 = some (0) := rfl
theorem fk_11_7_18 : FK 11 7 18 = some (0) := rfl
theorem fk_11_13_18 : FK 11 13 18 = some (1) := rfl
theorem fk_11_17_18 : FK 11 17 18 = some (2) := rfl
def PK39_0 : List (Nat × Nat × (Nat × FieldType × Bool)) := [(29, 0, (1, (.object "java/util/ArrayDeque"), true)), (36, 0, (2, (.object "java/lang/StringBuilder"), true)), (43, 0, (0, (.object "TheatreSaga$Theatre"), false)), (49, 0, (3, (.object "java/lang/CharSequence"), false)), (53, 0, (4, .int, false)), (75, 0, (5, .int, false)), (79, 0, (6, .int, false)), (137, 4, (4, .int, false)), (149, 4, (5, .int, false)), (152, 4, (6, .int, false)), (155, 4, (7, .int, false)), (158, 4, (8, .int, false)), (161, 4, (9, .int, false)), (164, 4, (10, .int, false)), (216, 2, (0, .boolean, false)), (220, 2, (1, .int, false)), (227, 2, (2, .int, false)), (281, 9, (0, .int, false)), (336, 1, (2, .int, false)), (342, 1, (3, .int, false)), (345, 1, (4, .int, false)), (346, 1, (5, .int, false)), (348, 1, (6, .int, false)), (351, 1, (7, .int, false)), (354, 1, (8, .int, false)), (357, 1, (9, .int, false)), (406, 0, (7, (.object "TheatreSaga$Theatre"), false))]
theorem PK39_0_ok (X : XT) : ∀ r ∈ PK39_0, ∀ mn : String, (r.2.2.2.2 = true → mn = "<init>") → FP (mkG X) (cn 39) mn r.1 r.2.1 r.2.2.1 r.2.2.2.1 := (List.forall_mem_cons.mpr ⟨fun mn => fun h => ⟨"TheatreSaga", "TheatreSaga", TX1, 8, tyX1, rfl, Nat.le_of_ble_eq_true rfl, Or.inl q421, Or.inl rfl, in_X1, tyX1_ok, nmX1, rfl, Or.inr ⟨rfl, rfl, h rfl⟩⟩, (List.forall_mem_cons.mpr ⟨fun mn => fun h => ⟨"TheatreSaga", "TheatreSaga", TX1, 8, tyX1, rfl, Nat.le_of_ble_eq_true rfl, Or.inl q423, Or.inl rfl, in_X1, tyX1_ok, nmX1, rfl, Or.inr ⟨rfl, rfl, h rfl⟩⟩, (List.forall_mem_cons.mpr ⟨fun mn => fun _ => ⟨"TheatreSaga", "TheatreSaga", TX1, 8, tyX1, rfl, Nat.le_of_ble_eq_true rfl, Or.inl q420, Or.inl rfl, in_X1, tyX1_ok, nmX1, rfl, Or.inl rfl⟩, (List.forall_mem_cons.mpr ⟨fun mn => fun _ => ⟨"TheatreSaga", "TheatreSaga", TX1, 8, tyX1, rfl, Nat.le_of_ble_eq_true rfl, Or.inl q424, Or.inl rfl, in_X1, tyX1_ok, nmX1, rfl, Or.inl rfl⟩, (List.forall_mem_cons.mpr ⟨fun mn => fun _ => ⟨"TheatreSaga", "TheatreSaga", TX1, 8, tyX1, rfl, Nat.le_of_ble_eq_true rfl, Or.inl q425, Or.inl rfl, in_X1, tyX1_ok, nmX1, rfl, Or.inl rfl⟩, (List.forall_mem_cons.mpr ⟨fun mn => fun _ => ⟨"TheatreSaga", "TheatreSaga", TX1, 8, tyX1, rfl, Nat.le_of_ble_eq_true rfl, Or.inl q426, Or.inl rfl, in_X1, tyX1_ok, nmX1, rfl, Or.inl rfl⟩, (List.forall_mem_cons.mpr ⟨fun mn => fun _ => ⟨"TheatreSaga", "TheatreSaga", TX1, 8, tyX1, rfl, Nat.le_of_ble_eq_true rfl, Or.inl q427, Or.inl rfl, in_X1, tyX1_ok, nmX1, rfl, Or.inl rfl⟩, (List.forall_mem_cons.mpr ⟨fun mn => fun _ => ⟨"TheatreSaga$Theatre$Tour", "TheatreSaga$Theatre$Tour", TX5, 12, tyX5, rfl, Nat.le_of_ble_eq_true rfl, Or.inr ⟨"TheatreSaga", (List.mem_of_getElem? (i := 35) rfl)⟩, Or.inl rfl, in_X5, tyX5_ok, nmX5, rfl, Or.inl rfl⟩, (List.forall_mem_cons.mpr ⟨fun mn => fun _ => ⟨"TheatreSaga$Theatre$Tour", "TheatreSaga$Theatre$Tour", TX5, 12, tyX5, rfl, Nat.le_of_ble_eq_true rfl, Or.inr ⟨"TheatreSaga", (List.mem_of_getElem? (i := 37) rfl)⟩, Or.inl rfl, in_X5, tyX5_ok, nmX5, rfl, Or.inl rfl⟩, (List.forall_mem_cons.mpr ⟨fun mn => fun _ => ⟨"TheatreSaga$Theatre$Tour", "TheatreSaga$Theatre$Tour", TX5, 12, tyX5, rfl, Nat.le_of_ble_eq_true rfl, Or.inr ⟨"TheatreSaga", (List.mem_of_getElem? (i := 38) rfl)⟩, Or.inl rfl, in_X5, tyX5_ok, nmX5, rfl, Or.inl rfl⟩, (List.forall_mem_cons.mpr ⟨fun mn => fun _ => ⟨"TheatreSaga$Theatre$Tour", "TheatreSaga$Theatre$Tour", TX5, 12, tyX5, rfl, Nat.le_of_ble_eq_true rfl, Or.inr ⟨"TheatreSaga", (List.mem_of_getElem? (i := 39) rfl)⟩, Or.inl rfl, in_X5, tyX5_ok, nmX5, rfl, Or.inl rfl⟩, (List.forall_mem_cons.mpr ⟨fun mn => fun _ => ⟨"TheatreSaga$Theatre$Tour", "TheatreSaga$Theatre$Tour", TX5, 12, tyX5, rfl, Nat.le_of_ble_eq_true rfl, Or.inr ⟨"TheatreSaga", (List.mem_of_getElem? (i := 40) rfl)⟩, Or.inl rfl, in_X5, tyX5_ok, nmX5, rfl, Or.inl rfl⟩, (List.forall_mem_cons.mpr ⟨fun mn => fun _ => ⟨"TheatreSaga$Theatre$Tour", "TheatreSaga$Theatre$Tour", TX5, 12, tyX5, rfl, Nat.le_of_ble_eq_true rfl, Or.inr ⟨"TheatreSaga", (List.mem_of_getElem? (i := 41) rfl)⟩, Or.inl rfl, in_X5, tyX5_ok, nmX5, rfl, Or.inl rfl⟩, (List.forall_mem_cons.mpr ⟨fun mn => fun _ => ⟨"TheatreSaga$Theatre$Tour", "TheatreSaga$Theatre$Tour", TX5, 12, tyX5, rfl, Nat.le_of_ble_eq_true rfl, Or.inr ⟨"TheatreSaga", (List.mem_of_getElem? (i := 42) rfl)⟩, Or.inl rfl, in_X5, tyX5_ok, nmX5, rfl, Or.inl rfl⟩, (List.forall_mem_cons.mpr ⟨fun mn => fun _ => ⟨"TheatreSaga$Town", "TheatreSaga$Town", TX3, 4, tyX3, rfl, Nat.le_of_ble_eq_true rfl, Or.inr ⟨"TheatreSaga", (List.mem_of_getElem? (i := 4) rfl)⟩, Or.inl rfl, in_X3, tyX3_ok, nmX3, rfl, Or.inl rfl⟩, (List.forall_mem_cons.mpr ⟨fun mn => fun _ => ⟨"TheatreSaga$Town", "TheatreSaga$Town", TX3, 4, tyX3, rfl, Nat.le_of_ble_eq_true rfl, Or.inr ⟨"TheatreSaga", (List.mem_of_getElem? (i := 7) rfl)⟩, Or.inl rfl, in_X3, tyX3_ok, nmX3, rfl, Or.inl rfl⟩, (List.forall_mem_cons.mpr ⟨fun mn => fun _ => ⟨"TheatreSaga$Town", "TheatreSaga$Town", TX3, 4, tyX3, rfl, Nat.le_of_ble_eq_true rfl, Or.inr ⟨"TheatreSaga", (List.mem_of_getElem? (i := 9) rfl)⟩, Or.inl rfl, in_X3, tyX3_ok, nmX3, rfl, Or.inl rfl⟩, (List.forall_mem_cons.mpr ⟨fun mn => fun _ => ⟨"TheatreSaga$1Choice", "TheatreSaga$1Choice", TX10, 5, tyX10, rfl, Nat.le_of_ble_eq_true rfl, Or.inr ⟨"TheatreSaga", (List.mem_of_getElem? (i := 45) rfl)⟩, Or.inl rfl, in_X10, tyX10_ok, nmX10, rfl, Or.inl rfl⟩, (List.forall_mem_cons.mpr ⟨fun mn => fun _ => ⟨"TheatreSaga$Theatre", "TheatreSaga$Theatre", TX2, 10, tyX2, rfl, Nat.le_of_ble_eq_true rfl, Or.inr ⟨"TheatreSaga", (List.mem_of_getElem? (i := 15) rfl)⟩, Or.inl rfl, in_X2, tyX2_ok, nmX2, rfl, Or.inl rfl⟩, (List.forall_mem_cons.mpr ⟨fun mn => fun _ => ⟨"TheatreSaga$Theatre", "TheatreSaga$Theatre", TX2, 10, tyX2, rfl, Nat.le_of_ble_eq_true rfl, Or.inr ⟨"TheatreSaga", (List.mem_of_getElem? (i := 17) rfl)⟩, Or.inl rfl, in_X2, tyX2_ok, nmX2, rfl, Or.inl rfl⟩, (List.forall_mem_cons.mpr ⟨fun mn => fun _ => ⟨"TheatreSaga$Theatre", "TheatreSaga$Theatre", TX2, 10, tyX2, rfl, Nat.le_of_ble_eq_true rfl, Or.inr ⟨"TheatreSaga", (List.mem_of_getElem? (i := 19) rfl)⟩, Or.inl rfl, in_X2, tyX2_ok, nmX2, rfl, Or.inl rfl⟩, (List.forall_mem_cons.mpr ⟨fun mn => fun _ => ⟨"TheatreSaga$Theatre", "TheatreSaga$Theatre", TX2, 10, tyX2, rfl, Nat.le_of_ble_eq_true rfl, Or.inr ⟨"TheatreSaga", (List.mem_of_getElem? (i := 21) rfl)⟩, Or.inl rfl, in_X2, tyX2_ok, nmX2, rfl, Or.inl rfl⟩, (List.forall_mem_cons.mpr ⟨fun mn => fun _ => ⟨"TheatreSaga$Theatre", "TheatreSaga$Theatre", TX2, 10, tyX2, rfl, Nat.le_of_ble_eq_true rfl, Or.inr ⟨"TheatreSaga", (List.mem_of_getElem? (i := 23) rfl)⟩, Or.inl rfl, in_X2, tyX2_ok, nmX2, rfl, Or.inl rfl⟩, (List.forall_mem_cons.mpr ⟨fun mn => fun _ => ⟨"TheatreSaga$Theatre", "TheatreSaga$Theatre", TX2, 10, tyX2, rfl, Nat.le_of_ble_eq_true rfl, Or.inr ⟨"TheatreSaga", (List.mem_of_getElem? (i := 24) rfl)⟩, Or.inl rfl, in_X2, tyX2_ok, nmX2, rfl, Or.inl rfl⟩, (List.forall_mem_cons.mpr ⟨fun mn => fun _ => ⟨"TheatreSaga$Theatre", "TheatreSaga$Theatre", TX2, 10, tyX2, rfl, Nat.le_of_ble_eq_true rfl, Or.inr ⟨"TheatreSaga", (List.mem_of_getElem? (i := 26) rfl)⟩, Or.inl rfl, in_X2, tyX2_ok, nmX2, rfl, Or.inl rfl⟩, (List.forall_mem_cons.mpr ⟨fun mn => fun _ => ⟨"TheatreSaga$Theatre", "TheatreSaga$Theatre", TX2, 10, tyX2, rfl, Nat.le_of_ble_eq_true rfl, Or.inr ⟨"TheatreSaga", (List.mem_of_getElem? (i := 28) rfl)⟩, Or.inl rfl, in_X2, tyX2_ok, nmX2, rfl, Or.inl rfl⟩, (List.forall_mem_cons.mpr ⟨fun mn => fun _ => ⟨"TheatreSaga", "TheatreSaga", TX1, 8, tyX1, rfl, Nat.le_of_ble_eq_true rfl, Or.inl q428, Or.inl rfl, in_X1, tyX1_ok, nmX1, rfl, Or.inl rfl⟩, (fun _ h => nomatch h)⟩)⟩)⟩)⟩)⟩)⟩)⟩)⟩)⟩)⟩)⟩)⟩)⟩)⟩)⟩)⟩)⟩)⟩)⟩)⟩)⟩)⟩)⟩)⟩)⟩)⟩)⟩)
def PK39 : List (Nat × Nat × (Nat × FieldType × Bool)) := PK39_0
theorem PK39_ok (X : XT) : ∀ r ∈ PK39, ∀ mn : String, (r.2.2.2.2 = true → mn = "<init>") → FP (mkG X) (cn 39) mn r.1 r.2.1 r.2.2.1 r.2.2.2.1 := PK39_0_ok X
def PK48_0 : List (Nat × Nat × (Nat × FieldType × Bool)) := [(3, 9, (4, (.object "TheatreSaga"), true)), (9, 9, (1, .int, true)), (13, 9, (2, .int, true)), (16, 9, (3, .int, true)), (25, 9, (0, .int, false)), (28, 0, (0, (.object "TheatreSaga$Theatre"), false)), (46, 2, (0, .boolean, false)), (54, 2, (1, .int, false))]
theorem PK48_0_ok (X : XT) : ∀ r ∈ PK48_0, ∀ mn : String, (r.2.2.2.2 = true → mn = "<init>") → FP (mkG X) (cn 48) mn r.1 r.2.1 r.2.2.1 r.2.2.2.1 := (List.forall_mem_cons.mpr ⟨fun mn => fun h => ⟨"TheatreSaga$1Choice", "TheatreSaga$1Choice", TX10, 5, tyX10, rfl, Nat.le_of_ble_eq_true rfl, Or.inl q1874, Or.inl rfl, in_X10, tyX10_ok, nmX10, rfl, Or.inr ⟨rfl, rfl, h rfl⟩⟩, (List.forall_mem_cons.mpr ⟨fun mn => fun h => ⟨"TheatreSaga$1Choice", "TheatreSaga$1Choice", TX10, 5, tyX10, rfl, Nat.le_of_ble_eq_true rfl, Or.inl q1871, Or.inl rfl, in_X10, tyX10_ok, nmX10, rfl, Or.inr ⟨rfl, rfl, h rfl⟩⟩, (List.forall_mem_cons.mpr ⟨fun mn => fun h => ⟨"TheatreSaga$1Choice", "TheatreSaga$1Choice", TX10, 5, tyX10, rfl, Nat.le_of_ble_eq_true rfl, Or.inl q1872, Or.inl rfl, in_X10, tyX10_ok, nmX10, rfl, Or.inr ⟨rfl, rfl, h rfl⟩⟩, (List.forall_mem_cons.mpr ⟨fun mn => fun h => ⟨"TheatreSaga$1Choice", "TheatreSaga$1Choice", TX10, 5, tyX10, rfl, Nat.le_of_ble_eq_true rfl, Or.inl q1873, Or.inl rfl, in_X10, tyX10_ok, nmX10, rfl, Or.inr ⟨rfl, rfl, h rfl⟩⟩, (List.forall_mem_cons.mpr ⟨fun mn => fun _ => ⟨"TheatreSaga$1Choice", "TheatreSaga$1Choice", TX10, 5, tyX10, rfl, Nat.le_of_ble_eq_true rfl, Or.inl q1869, Or.inl rfl, in_X10, tyX10_ok, nmX10, rfl, Or.inl rfl⟩, (List.forall_mem_cons.mpr ⟨fun mn => fun _ => ⟨"TheatreSaga", "TheatreSaga", TX1, 8, tyX1, rfl, Nat.le_of_ble_eq_true rfl, Or.inr ⟨"TheatreSaga", (List.mem_of_getElem? (i := 29) rfl)⟩, Or.inl rfl, in_X1, tyX1_ok, nmX1, rfl, Or.inl rfl⟩, (List.forall_mem_cons.mpr ⟨fun mn => fun _ => ⟨"TheatreSaga$Town", "TheatreSaga$Town", TX3, 4, tyX3, rfl, Nat.le_of_ble_eq_true rfl, Or.inr ⟨"TheatreSaga", (List.mem_of_getElem? (i := 1) rfl)⟩, Or.inl rfl, in_X3, tyX3_ok, nmX3, rfl, Or.inl rfl⟩, (List.forall_mem_cons.mpr ⟨fun mn => fun _ => ⟨"TheatreSaga$Town", "TheatreSaga$Town", TX3, 4, tyX3, rfl, Nat.le_of_ble_eq_true rfl, Or.inr ⟨"TheatreSaga", (List.mem_of_getElem? (i := 5) rfl)⟩, Or.inl rfl, in_X3, tyX3_ok, nmX3, rfl, Or.inl rfl⟩, (fun _ h => nomatch h)⟩)⟩)⟩)⟩)⟩)⟩)⟩)⟩)
def PK48 : List (Nat × Nat × (Nat × FieldType × Bool)) := PK48_0
theorem PK48_ok (X : XT) : ∀ r ∈ PK48, ∀ mn : String, (r.2.2.2.2 = true → mn = "<init>") → FP (mkG X) (cn 48) mn r.1 r.2.1 r.2.2.1 r.2.2.2.1 := PK48_0_ok X
def PK44_0 : List (Nat × Nat × (Nat × FieldType × Bool)) := [(9, 5, (0, (.object "java/lang/String"), true)), (15, 5, (1, (.array .int), true))]
theorem PK44_0_ok (X : XT) : ∀ r ∈ PK44_0, ∀ mn : String, (r.2.2.2.2 = true → mn = "<init>") → FP (mkG X) (cn 44) mn r.1 r.2.1 r.2.2.1 r.2.2.2.1 := (List.forall_mem_cons.mpr ⟨fun mn => fun h => ⟨"TheatreSaga$Deed", "TheatreSaga$Deed", TX6, 2, tyX6, rfl, Nat.le_of_ble_eq_true rfl, Or.inl q1240, Or.inl rfl, in_X6, tyX6_ok, nmX6, rfl, Or.inr ⟨rfl, rfl, h rfl⟩⟩, (List.forall_mem_cons.mpr ⟨fun mn => fun h => ⟨"TheatreSaga$Deed", "TheatreSaga$Deed", TX6, 2, tyX6, rfl, Nat.le_of_ble_eq_true rfl, Or.inl q1241, Or.inl rfl, in_X6, tyX6_ok, nmX6, rfl, Or.inr ⟨rfl, rfl, h rfl⟩⟩, (fun _ h => nomatch h)⟩)⟩)
def PK44 : List (Nat × Nat × (Nat × FieldType × Bool)) := PK44_0
theorem PK44_ok (X : XT) : ∀ r ∈ PK44, ∀ mn : String, (r.2.2.2.2 = true → mn = "<init>") → FP (mkG X) (cn 44) mn r.1 r.2.1 r.2.2.1 r.2.2.2.1 := PK44_0_ok X
def PK50_0 : List (Nat × Nat × (Nat × FieldType × Bool)) := [(7, 11, (6, .int, true))]
theorem PK50_0_ok (X : XT) : ∀ r ∈ PK50_0, ∀ mn : String, (r.2.2.2.2 = true → mn = "<init>") → FP (mkG X) (cn 50) mn r.1 r.2.1 r.2.2.1 r.2.2.2.1 := (List.forall_mem_cons.mpr ⟨fun mn => fun h => ⟨"TheatreSaga$FaultException", "TheatreSaga$FaultException", TX12, 7, tyX12, rfl, Nat.le_of_ble_eq_true rfl, Or.inl q2223, Or.inl rfl, in_X12, tyX12_ok, nmX12, rfl, Or.inr ⟨rfl, rfl, h rfl⟩⟩, (fun _ h => nomatch h)⟩)
def PK50 : List (Nat × Nat × (Nat × FieldType × Bool)) := PK50_0
theorem PK50_ok (X : XT) : ∀ r ∈ PK50, ∀ mn : String, (r.2.2.2.2 = true → mn = "<init>") → FP (mkG X) (cn 50) mn r.1 r.2.1 r.2.2.1 r.2.2.2.1 := PK50_0_ok X
def PK49_0 : List (Nat × Nat × (Nat × FieldType × Bool)) := [(1, 10, (1, (.object "TheatreSaga"), true)), (13, 10, (0, .int, false))]
theorem PK49_0_ok (X : XT) : ∀ r ∈ PK49_0, ∀ mn : String, (r.2.2.2.2 = true → mn = "<init>") → FP (mkG X) (cn 49) mn r.1 r.2.1 r.2.2.1 r.2.2.2.1 := (List.forall_mem_cons.mpr ⟨fun mn => fun h => ⟨"TheatreSaga$Parser", "TheatreSaga$Parser", TX11, 2, tyX11, rfl, Nat.le_of_ble_eq_true rfl, Or.inl q2138, Or.inl rfl, in_X11, tyX11_ok, nmX11, rfl, Or.inr ⟨rfl, rfl, h rfl⟩⟩, (List.forall_mem_cons.mpr ⟨fun mn => fun _ => ⟨"TheatreSaga$Parser", "TheatreSaga$Parser", TX11, 2, tyX11, rfl, Nat.le_of_ble_eq_true rfl, Or.inl q2137, Or.inl rfl, in_X11, tyX11_ok, nmX11, rfl, Or.inl rfl⟩, (fun _ h => nomatch h)⟩)⟩)
def PK49 : List (Nat × Nat × (Nat × FieldType × Bool)) := PK49_0
theorem PK49_ok (X : XT) : ∀ r ∈ PK49, ∀ mn : String, (r.2.2.2.2 = true → mn = "<init>") → FP (mkG X) (cn 49) mn r.1 r.2.1 r.2.2.1 r.2.2.2.1 := PK49_0_ok X
def PK45_0 : List (Nat × Nat × (Nat × FieldType × Bool)) := [(7, 6, (6, .int, true)), (13, 6, (7, .int, true))]
theorem PK45_0_ok (X : XT) : ∀ r ∈ PK45_0, ∀ mn : String, (r.2.2.2.2 = true → mn = "<init>") → FP (mkG X) (cn 45) mn r.1 r.2.1 r.2.2.1 r.2.2.2.1 := (List.forall_mem_cons.mpr ⟨fun mn => fun h => ⟨"TheatreSaga$Refusal", "TheatreSaga$Refusal", TX7, 8, tyX7, rfl, Nat.le_of_ble_eq_true rfl, Or.inl q1367, Or.inl rfl, in_X7, tyX7_ok, nmX7, rfl, Or.inr ⟨rfl, rfl, h rfl⟩⟩, (List.forall_mem_cons.mpr ⟨fun mn => fun h => ⟨"TheatreSaga$Refusal", "TheatreSaga$Refusal", TX7, 8, tyX7, rfl, Nat.le_of_ble_eq_true rfl, Or.inl q1369, Or.inl rfl, in_X7, tyX7_ok, nmX7, rfl, Or.inr ⟨rfl, rfl, h rfl⟩⟩, (fun _ h => nomatch h)⟩)⟩)
def PK45 : List (Nat × Nat × (Nat × FieldType × Bool)) := PK45_0
theorem PK45_ok (X : XT) : ∀ r ∈ PK45, ∀ mn : String, (r.2.2.2.2 = true → mn = "<init>") → FP (mkG X) (cn 45) mn r.1 r.2.1 r.2.2.1 r.2.2.2.1 := PK45_0_ok X
def PK46_0 : List (Nat × Nat × (Nat × FieldType × Bool)) := [(9, 7, (0, .int, true)), (15, 7, (1, .int, true)), (18, 7, (2, .int, true)), (21, 7, (3, .int, true))]
theorem PK46_0_ok (X : XT) : ∀ r ∈ PK46_0, ∀ mn : String, (r.2.2.2.2 = true → mn = "<init>") → FP (mkG X) (cn 46) mn r.1 r.2.1 r.2.2.1 r.2.2.2.1 := (List.forall_mem_cons.mpr ⟨fun mn => fun h => ⟨"TheatreSaga$Step", "TheatreSaga$Step", TX8, 4, tyX8, rfl, Nat.le_of_ble_eq_true rfl, Or.inl q1391, Or.inl rfl, in_X8, tyX8_ok, nmX8, rfl, Or.inr ⟨rfl, rfl, h rfl⟩⟩, (List.forall_mem_cons.mpr ⟨fun mn => fun h => ⟨"TheatreSaga$Step", "TheatreSaga$Step", TX8, 4, tyX8, rfl, Nat.le_of_ble_eq_true rfl, Or.inl q1392, Or.inl rfl, in_X8, tyX8_ok, nmX8, rfl, Or.inr ⟨rfl, rfl, h rfl⟩⟩, (List.forall_mem_cons.mpr ⟨fun mn => fun h => ⟨"TheatreSaga$Step", "TheatreSaga$Step", TX8, 4, tyX8, rfl, Nat.le_of_ble_eq_true rfl, Or.inl q1393, Or.inl rfl, in_X8, tyX8_ok, nmX8, rfl, Or.inr ⟨rfl, rfl, h rfl⟩⟩, (List.forall_mem_cons.mpr ⟨fun mn => fun h => ⟨"TheatreSaga$Step", "TheatreSaga$Step", TX8, 4, tyX8, rfl, Nat.le_of_ble_eq_true rfl, Or.inl q1394, Or.inl rfl, in_X8, tyX8_ok, nmX8, rfl, Or.inr ⟨rfl, rfl, h rfl⟩⟩, (fun _ h => nomatch h)⟩)⟩)⟩)⟩)
def PK46 : List (Nat × Nat × (Nat × FieldType × Bool)) := PK46_0
theorem PK46_ok (X : XT) : ∀ r ∈ PK46, ∀ mn : String, (r.2.2.2.2 = true → mn = "<init>") → FP (mkG X) (cn 46) mn r.1 r.2.1 r.2.2.1 r.2.2.2.1 := PK46_0_ok X
def PK40_0 : List (Nat × Nat × (Nat × FieldType × Bool)) := [(12, 1, (0, (.object "java/util/List"), true)), (18, 1, (1, (.object "java/util/List"), true)), (21, 1, (3, .int, false)), (56, 1, (2, .int, false)), (59, 1, (4, .int, false)), (62, 1, (5, .int, false)), (65, 1, (6, .int, false)), (68, 1, (7, .int, false)), (71, 1, (8, .int, false)), (74, 1, (9, .int, false)), (108, 2, (1, .int, false)), (143, 4, (4, .int, false)), (152, 2, (0, .boolean, false)), (170, 4, (5, .int, false))]
theorem PK40_0_ok (X : XT) : ∀ r ∈ PK40_0, ∀ mn : String, (r.2.2.2.2 = true → mn = "<init>") → FP (mkG X) (cn 40) mn r.1 r.2.1 r.2.2.1 r.2.2.2.1 := (List.forall_mem_cons.mpr ⟨fun mn => fun h => ⟨"TheatreSaga$Theatre", "TheatreSaga$Theatre", TX2, 10, tyX2, rfl, Nat.le_of_ble_eq_true rfl, Or.inl q368, Or.inl rfl, in_X2, tyX2_ok, nmX2, rfl, Or.inr ⟨rfl, rfl, h rfl⟩⟩, (List.forall_mem_cons.mpr ⟨fun mn => fun h => ⟨"TheatreSaga$Theatre", "TheatreSaga$Theatre", TX2, 10, tyX2, rfl, Nat.le_of_ble_eq_true rfl, Or.inl q371, Or.inl rfl, in_X2, tyX2_ok, nmX2, rfl, Or.inr ⟨rfl, rfl, h rfl⟩⟩, (List.forall_mem_cons.mpr ⟨fun mn => fun _ => ⟨"TheatreSaga$Theatre", "TheatreSaga$Theatre", TX2, 10, tyX2, rfl, Nat.le_of_ble_eq_true rfl, Or.inl q377, Or.inl rfl, in_X2, tyX2_ok, nmX2, rfl, Or.inl rfl⟩, (List.forall_mem_cons.mpr ⟨fun mn => fun _ => ⟨"TheatreSaga$Theatre", "TheatreSaga$Theatre", TX2, 10, tyX2, rfl, Nat.le_of_ble_eq_true rfl, Or.inl q375, Or.inl rfl, in_X2, tyX2_ok, nmX2, rfl, Or.inl rfl⟩, (List.forall_mem_cons.mpr ⟨fun mn => fun _ => ⟨"TheatreSaga$Theatre", "TheatreSaga$Theatre", TX2, 10, tyX2, rfl, Nat.le_of_ble_eq_true rfl, Or.inl q380, Or.inl rfl, in_X2, tyX2_ok, nmX2, rfl, Or.inl rfl⟩, (List.forall_mem_cons.mpr ⟨fun mn => fun _ => ⟨"TheatreSaga$Theatre", "TheatreSaga$Theatre", TX2, 10, tyX2, rfl, Nat.le_of_ble_eq_true rfl, Or.inl q383, Or.inl rfl, in_X2, tyX2_ok, nmX2, rfl, Or.inl rfl⟩, (List.forall_mem_cons.mpr ⟨fun mn => fun _ => ⟨"TheatreSaga$Theatre", "TheatreSaga$Theatre", TX2, 10, tyX2, rfl, Nat.le_of_ble_eq_true rfl, Or.inl q386, Or.inl rfl, in_X2, tyX2_ok, nmX2, rfl, Or.inl rfl⟩, (List.forall_mem_cons.mpr ⟨fun mn => fun _ => ⟨"TheatreSaga$Theatre", "TheatreSaga$Theatre", TX2, 10, tyX2, rfl, Nat.le_of_ble_eq_true rfl, Or.inl q389, Or.inl rfl, in_X2, tyX2_ok, nmX2, rfl, Or.inl rfl⟩, (List.forall_mem_cons.mpr ⟨fun mn => fun _ => ⟨"TheatreSaga$Theatre", "TheatreSaga$Theatre", TX2, 10, tyX2, rfl, Nat.le_of_ble_eq_true rfl, Or.inl q391, Or.inl rfl, in_X2, tyX2_ok, nmX2, rfl, Or.inl rfl⟩, (List.forall_mem_cons.mpr ⟨fun mn => fun _ => ⟨"TheatreSaga$Theatre", "TheatreSaga$Theatre", TX2, 10, tyX2, rfl, Nat.le_of_ble_eq_true rfl, Or.inl q394, Or.inl rfl, in_X2, tyX2_ok, nmX2, rfl, Or.inl rfl⟩, (List.forall_mem_cons.mpr ⟨fun mn => fun _ => ⟨"TheatreSaga$Town", "TheatreSaga$Town", TX3, 4, tyX3, rfl, Nat.le_of_ble_eq_true rfl, Or.inr ⟨"TheatreSaga", (List.mem_of_getElem? (i := 6) rfl)⟩, Or.inl rfl, in_X3, tyX3_ok, nmX3, rfl, Or.inl rfl⟩, (List.forall_mem_cons.mpr ⟨fun mn => fun _ => ⟨"TheatreSaga$Theatre$Tour", "TheatreSaga$Theatre$Tour", TX5, 12, tyX5, rfl, Nat.le_of_ble_eq_true rfl, Or.inr ⟨"TheatreSaga", (List.mem_of_getElem? (i := 34) rfl)⟩, Or.inl rfl, in_X5, tyX5_ok, nmX5, rfl, Or.inl rfl⟩, (List.forall_mem_cons.mpr ⟨fun mn => fun _ => ⟨"TheatreSaga$Town", "TheatreSaga$Town", TX3, 4, tyX3, rfl, Nat.le_of_ble_eq_true rfl, Or.inr ⟨"TheatreSaga", (List.mem_of_getElem? (i := 2) rfl)⟩, Or.inl rfl, in_X3, tyX3_ok, nmX3, rfl, Or.inl rfl⟩, (List.forall_mem_cons.mpr ⟨fun mn => fun _ => ⟨"TheatreSaga$Theatre$Tour", "TheatreSaga$Theatre$Tour", TX5, 12, tyX5, rfl, Nat.le_of_ble_eq_true rfl, Or.inr ⟨"TheatreSaga", (List.mem_of_getElem? (i := 36) rfl)⟩, Or.inl rfl, in_X5, tyX5_ok, nmX5, rfl, Or.inl rfl⟩, (fun _ h => nomatch h)⟩)⟩)⟩)⟩)⟩)⟩)⟩)⟩)⟩)⟩)⟩)⟩)⟩)⟩)
def PK40 : List (Nat × Nat × (Nat × FieldType × Bool)) := PK40_0
theorem PK40_ok (X : XT) : ∀ r ∈ PK40, ∀ mn : String, (r.2.2.2.2 = true → mn = "<init>") → FP (mkG X) (cn 40) mn r.1 r.2.1 r.2.2.1 r.2.2.2.1 := PK40_0_ok X
def PK43_0 : List (Nat × Nat × (Nat × FieldType × Bool)) := [(3, 4, (11, (.object "TheatreSaga$Theatre"), true)), (18, 4, (2, (.object "java/util/List"), true)), (22, 4, (3, (.array .int), true)), (26, 4, (0, .int, true)), (30, 4, (1, .int, true)), (48, 4, (4, .int, false)), (51, 4, (5, .int, false)), (54, 4, (6, .int, false)), (57, 4, (7, .int, false)), (60, 4, (8, .int, false)), (63, 4, (9, .int, false)), (66, 4, (10, .int, false)), (150, 2, (0, .boolean, false)), (158, 1, (3, .int, false)), (161, 1, (4, .int, false)), (164, 2, (2, .int, false)), (172, 1, (6, .int, false)), (178, 1, (5, .int, false)), (184, 1, (8, .int, false)), (187, 1, (9, .int, false))]
theorem PK43_0_ok (X : XT) : ∀ r ∈ PK43_0, ∀ mn : String, (r.2.2.2.2 = true → mn = "<init>") → FP (mkG X) (cn 43) mn r.1 r.2.1 r.2.2.1 r.2.2.2.1 := (List.forall_mem_cons.mpr ⟨fun mn => fun h => ⟨"TheatreSaga$Theatre$Tour", "TheatreSaga$Theatre$Tour", TX5, 12, tyX5, rfl, Nat.le_of_ble_eq_true rfl, Or.inl q1129, Or.inl rfl, in_X5, tyX5_ok, nmX5, rfl, Or.inr ⟨rfl, rfl, h rfl⟩⟩, (List.forall_mem_cons.mpr ⟨fun mn => fun h => ⟨"TheatreSaga$Theatre$Tour", "TheatreSaga$Theatre$Tour", TX5, 12, tyX5, rfl, Nat.le_of_ble_eq_true rfl, Or.inl q1109, Or.inl rfl, in_X5, tyX5_ok, nmX5, rfl, Or.inr ⟨rfl, rfl, h rfl⟩⟩, (List.forall_mem_cons.mpr ⟨fun mn => fun h => ⟨"TheatreSaga$Theatre$Tour", "TheatreSaga$Theatre$Tour", TX5, 12, tyX5, rfl, Nat.le_of_ble_eq_true rfl, Or.inl q1111, Or.inl rfl, in_X5, tyX5_ok, nmX5, rfl, Or.inr ⟨rfl, rfl, h rfl⟩⟩, (List.forall_mem_cons.mpr ⟨fun mn => fun h => ⟨"TheatreSaga$Theatre$Tour", "TheatreSaga$Theatre$Tour", TX5, 12, tyX5, rfl, Nat.le_of_ble_eq_true rfl, Or.inl q1106, Or.inl rfl, in_X5, tyX5_ok, nmX5, rfl, Or.inr ⟨rfl, rfl, h rfl⟩⟩, (List.forall_mem_cons.mpr ⟨fun mn => fun h => ⟨"TheatreSaga$Theatre$Tour", "TheatreSaga$Theatre$Tour", TX5, 12, tyX5, rfl, Nat.le_of_ble_eq_true rfl, Or.inl q1107, Or.inl rfl, in_X5, tyX5_ok, nmX5, rfl, Or.inr ⟨rfl, rfl, h rfl⟩⟩, (List.forall_mem_cons.mpr ⟨fun mn => fun _ => ⟨"TheatreSaga$Theatre$Tour", "TheatreSaga$Theatre$Tour", TX5, 12, tyX5, rfl, Nat.le_of_ble_eq_true rfl, Or.inl q1113, Or.inl rfl, in_X5, tyX5_ok, nmX5, rfl, Or.inl rfl⟩, (List.forall_mem_cons.mpr ⟨fun mn => fun _ => ⟨"TheatreSaga$Theatre$Tour", "TheatreSaga$Theatre$Tour", TX5, 12, tyX5, rfl, Nat.le_of_ble_eq_true rfl, Or.inl q1116, Or.inl rfl, in_X5, tyX5_ok, nmX5, rfl, Or.inl rfl⟩, (List.forall_mem_cons.mpr ⟨fun mn => fun _ => ⟨"TheatreSaga$Theatre$Tour", "TheatreSaga$Theatre$Tour", TX5, 12, tyX5, rfl, Nat.le_of_ble_eq_true rfl, Or.inl q1119, Or.inl rfl, in_X5, tyX5_ok, nmX5, rfl, Or.inl rfl⟩, (List.forall_mem_cons.mpr ⟨fun mn => fun _ => ⟨"TheatreSaga$Theatre$Tour", "TheatreSaga$Theatre$Tour", TX5, 12, tyX5, rfl, Nat.le_of_ble_eq_true rfl, Or.inl q1121, Or.inl rfl, in_X5, tyX5_ok, nmX5, rfl, Or.inl rfl⟩, (List.forall_mem_cons.mpr ⟨fun mn => fun _ => ⟨"TheatreSaga$Theatre$Tour", "TheatreSaga$Theatre$Tour", TX5, 12, tyX5, rfl, Nat.le_of_ble_eq_true rfl, Or.inl q1123, Or.inl rfl, in_X5, tyX5_ok, nmX5, rfl, Or.inl rfl⟩, (List.forall_mem_cons.mpr ⟨fun mn => fun _ => ⟨"TheatreSaga$Theatre$Tour", "TheatreSaga$Theatre$Tour", TX5, 12, tyX5, rfl, Nat.le_of_ble_eq_true rfl, Or.inl q1125, Or.inl rfl, in_X5, tyX5_ok, nmX5, rfl, Or.inl rfl⟩, (List.forall_mem_cons.mpr ⟨fun mn => fun _ => ⟨"TheatreSaga$Theatre$Tour", "TheatreSaga$Theatre$Tour", TX5, 12, tyX5, rfl, Nat.le_of_ble_eq_true rfl, Or.inl q1127, Or.inl rfl, in_X5, tyX5_ok, nmX5, rfl, Or.inl rfl⟩, (List.forall_mem_cons.mpr ⟨fun mn => fun _ => ⟨"TheatreSaga$Town", "TheatreSaga$Town", TX3, 4, tyX3, rfl, Nat.le_of_ble_eq_true rfl, Or.inr ⟨"TheatreSaga", (List.mem_of_getElem? (i := 3) rfl)⟩, Or.inl rfl, in_X3, tyX3_ok, nmX3, rfl, Or.inl rfl⟩, (List.forall_mem_cons.mpr ⟨fun mn => fun _ => ⟨"TheatreSaga$Theatre", "TheatreSaga$Theatre", TX2, 10, tyX2, rfl, Nat.le_of_ble_eq_true rfl, Or.inr ⟨"TheatreSaga", (List.mem_of_getElem? (i := 16) rfl)⟩, Or.inl rfl, in_X2, tyX2_ok, nmX2, rfl, Or.inl rfl⟩, (List.forall_mem_cons.mpr ⟨fun mn => fun _ => ⟨"TheatreSaga$Theatre", "TheatreSaga$Theatre", TX2, 10, tyX2, rfl, Nat.le_of_ble_eq_true rfl, Or.inr ⟨"TheatreSaga", (List.mem_of_getElem? (i := 18) rfl)⟩, Or.inl rfl, in_X2, tyX2_ok, nmX2, rfl, Or.inl rfl⟩, (List.forall_mem_cons.mpr ⟨fun mn => fun _ => ⟨"TheatreSaga$Town", "TheatreSaga$Town", TX3, 4, tyX3, rfl, Nat.le_of_ble_eq_true rfl, Or.inr ⟨"TheatreSaga", (List.mem_of_getElem? (i := 8) rfl)⟩, Or.inl rfl, in_X3, tyX3_ok, nmX3, rfl, Or.inl rfl⟩, (List.forall_mem_cons.mpr ⟨fun mn => fun _ => ⟨"TheatreSaga$Theatre", "TheatreSaga$Theatre", TX2, 10, tyX2, rfl, Nat.le_of_ble_eq_true rfl, Or.inr ⟨"TheatreSaga", (List.mem_of_getElem? (i := 22) rfl)⟩, Or.inl rfl, in_X2, tyX2_ok, nmX2, rfl, Or.inl rfl⟩, (List.forall_mem_cons.mpr ⟨fun mn => fun _ => ⟨"TheatreSaga$Theatre", "TheatreSaga$Theatre", TX2, 10, tyX2, rfl, Nat.le_of_ble_eq_true rfl, Or.inr ⟨"TheatreSaga", (List.mem_of_getElem? (i := 20) rfl)⟩, Or.inl rfl, in_X2, tyX2_ok, nmX2, rfl, Or.inl rfl⟩, (List.forall_mem_cons.mpr ⟨fun mn => fun _ => ⟨"TheatreSaga$Theatre", "TheatreSaga$Theatre", TX2, 10, tyX2, rfl, Nat.le_of_ble_eq_true rfl, Or.inr ⟨"TheatreSaga", (List.mem_of_getElem? (i := 25) rfl)⟩, Or.inl rfl, in_X2, tyX2_ok, nmX2, rfl, Or.inl rfl⟩, (List.forall_mem_cons.mpr ⟨fun mn => fun _ => ⟨"TheatreSaga$Theatre", "TheatreSaga$Theatre", TX2, 10, tyX2, rfl, Nat.le_of_ble_eq_true rfl, Or.inr ⟨"TheatreSaga", (List.mem_of_getElem? (i := 27) rfl)⟩, Or.inl rfl, in_X2, tyX2_ok, nmX2, rfl, Or.inl rfl⟩, (fun _ h => nomatch h)⟩)⟩)⟩)⟩)⟩)⟩)⟩)⟩)⟩)⟩)⟩)⟩)⟩)⟩)⟩)⟩)⟩)⟩)⟩)⟩)
def PK43 : List (Nat × Nat × (Nat × FieldType × Bool)) := PK43_0
theorem PK43_ok (X : XT) : ∀ r ∈ PK43, ∀ mn : String, (r.2.2.2.2 = true → mn = "<init>") → FP (mkG X) (cn 43) mn r.1 r.2.1 r.2.2.1 r.2.2.2.1 := PK43_0_ok X
def PK41_0 : List (Nat × Nat × (Nat × FieldType × Bool)) := [(9, 2, (3, (.array .int), true)), (15, 2, (1, .int, false)), (20, 2, (0, .boolean, false)), (24, 2, (2, .int, false))]
theorem PK41_0_ok (X : XT) : ∀ r ∈ PK41_0, ∀ mn : String, (r.2.2.2.2 = true → mn = "<init>") → FP (mkG X) (cn 41) mn r.1 r.2.1 r.2.2.1 r.2.2.2.1 := (List.forall_mem_cons.mpr ⟨fun mn => fun h => ⟨"TheatreSaga$Town", "TheatreSaga$Town", TX3, 4, tyX3, rfl, Nat.le_of_ble_eq_true rfl, Or.inl q242, Or.inl rfl, in_X3, tyX3_ok, nmX3, rfl, Or.inr ⟨rfl, rfl, h rfl⟩⟩, (List.forall_mem_cons.mpr ⟨fun mn => fun _ => ⟨"TheatreSaga$Town", "TheatreSaga$Town", TX3, 4, tyX3, rfl, Nat.le_of_ble_eq_true rfl, Or.inl q235, Or.inl rfl, in_X3, tyX3_ok, nmX3, rfl, Or.inl rfl⟩, (List.forall_mem_cons.mpr ⟨fun mn => fun _ => ⟨"TheatreSaga$Town", "TheatreSaga$Town", TX3, 4, tyX3, rfl, Nat.le_of_ble_eq_true rfl, Or.inl q230, Or.inl rfl, in_X3, tyX3_ok, nmX3, rfl, Or.inl rfl⟩, (List.forall_mem_cons.mpr ⟨fun mn => fun _ => ⟨"TheatreSaga$Town", "TheatreSaga$Town", TX3, 4, tyX3, rfl, Nat.le_of_ble_eq_true rfl, Or.inl q239, Or.inl rfl, in_X3, tyX3_ok, nmX3, rfl, Or.inl rfl⟩, (fun _ h => nomatch h)⟩)⟩)⟩)⟩)
def PK41 : List (Nat × Nat × (Nat × FieldType × Bool)) := PK41_0
theorem PK41_ok (X : XT) : ∀ r ∈ PK41, ∀ mn : String, (r.2.2.2.2 = true → mn = "<init>") → FP (mkG X) (cn 41) mn r.1 r.2.1 r.2.2.1 r.2.2.2.1 := PK41_0_ok X
def PK47_0 : List (Nat × Nat × (Nat × FieldType × Bool)) := [(20, 8, (0, (.object "java/util/List"), true)), (24, 8, (2, .int, true)), (28, 8, (1, .int, true)), (31, 8, (3, .int, false))]
theorem PK47_0_ok (X : XT) : ∀ r ∈ PK47_0, ∀ mn : String, (r.2.2.2.2 = true → mn = "<init>") → FP (mkG X) (cn 47) mn r.1 r.2.1 r.2.2.1 r.2.2.2.1 := (List.forall_mem_cons.mpr ⟨fun mn => fun h => ⟨"TheatreSaga$Walk", "TheatreSaga$Walk", TX9, 4, tyX9, rfl, Nat.le_of_ble_eq_true rfl, Or.inl q1460, Or.inl rfl, in_X9, tyX9_ok, nmX9, rfl, Or.inr ⟨rfl, rfl, h rfl⟩⟩, (List.forall_mem_cons.mpr ⟨fun mn => fun h => ⟨"TheatreSaga$Walk", "TheatreSaga$Walk", TX9, 4, tyX9, rfl, Nat.le_of_ble_eq_true rfl, Or.inl q1462, Or.inl rfl, in_X9, tyX9_ok, nmX9, rfl, Or.inr ⟨rfl, rfl, h rfl⟩⟩, (List.forall_mem_cons.mpr ⟨fun mn => fun h => ⟨"TheatreSaga$Walk", "TheatreSaga$Walk", TX9, 4, tyX9, rfl, Nat.le_of_ble_eq_true rfl, Or.inl q1461, Or.inl rfl, in_X9, tyX9_ok, nmX9, rfl, Or.inr ⟨rfl, rfl, h rfl⟩⟩, (List.forall_mem_cons.mpr ⟨fun mn => fun _ => ⟨"TheatreSaga$Walk", "TheatreSaga$Walk", TX9, 4, tyX9, rfl, Nat.le_of_ble_eq_true rfl, Or.inl q1463, Or.inl rfl, in_X9, tyX9_ok, nmX9, rfl, Or.inl rfl⟩, (fun _ h => nomatch h)⟩)⟩)⟩)⟩)
def PK47 : List (Nat × Nat × (Nat × FieldType × Bool)) := PK47_0
theorem PK47_ok (X : XT) : ∀ r ∈ PK47, ∀ mn : String, (r.2.2.2.2 = true → mn = "<init>") → FP (mkG X) (cn 47) mn r.1 r.2.1 r.2.2.1 r.2.2.2.1 := PK47_0_ok X
def PK42_0 : List (Nat × Nat × (Nat × FieldType × Bool)) := [(9, 3, (0, (.array .int), true)), (13, 3, (1, (.array .int), true)), (16, 3, (2, (.array .int), true)), (19, 3, (3, (.array .int), true)), (22, 3, (5, (.array .int), true)), (25, 3, (7, (.array .char), true)), (29, 3, (9, (.array .char), true)), (34, 3, (12, (.object "java/lang/String"), false)), (38, 3, (13, (.array .int), true)), (41, 3, (14, .int, false)), (45, 3, (18, .int, false)), (48, 3, (4, .int, false)), (51, 3, (17, .int, false)), (54, 3, (15, .int, false)), (57, 3, (16, .int, false)), (182, 3, (8, .int, false)), (198, 3, (10, .int, false)), (201, 3, (11, .int, false)), (269, 3, (6, .boolean, false))]
theorem PK42_0_ok (X : XT) : ∀ r ∈ PK42_0, ∀ mn : String, (r.2.2.2.2 = true → mn = "<init>") → FP (mkG X) (cn 42) mn r.1 r.2.1 r.2.2.1 r.2.2.2.1 := (List.forall_mem_cons.mpr ⟨fun mn => fun h => ⟨"TheatreSagaModel", "TheatreSagaModel", TX4, 19, tyX4, rfl, Nat.le_of_ble_eq_true rfl, Or.inl q2391, Or.inl rfl, in_X4, tyX4_ok, nmX4, rfl, Or.inr ⟨rfl, rfl, h rfl⟩⟩, (List.forall_mem_cons.mpr ⟨fun mn => fun h => ⟨"TheatreSagaModel", "TheatreSagaModel", TX4, 19, tyX4, rfl, Nat.le_of_ble_eq_true rfl, Or.inl q2392, Or.inl rfl, in_X4, tyX4_ok, nmX4, rfl, Or.inr ⟨rfl, rfl, h rfl⟩⟩, (List.forall_mem_cons.mpr ⟨fun mn => fun h => ⟨"TheatreSagaModel", "TheatreSagaModel", TX4, 19, tyX4, rfl, Nat.le_of_ble_eq_true rfl, Or.inl q2393, Or.inl rfl, in_X4, tyX4_ok, nmX4, rfl, Or.inr ⟨rfl, rfl, h rfl⟩⟩, (List.forall_mem_cons.mpr ⟨fun mn => fun h => ⟨"TheatreSagaModel", "TheatreSagaModel", TX4, 19, tyX4, rfl, Nat.le_of_ble_eq_true rfl, Or.inl q2394, Or.inl rfl, in_X4, tyX4_ok, nmX4, rfl, Or.inr ⟨rfl, rfl, h rfl⟩⟩, (List.forall_mem_cons.mpr ⟨fun mn => fun h => ⟨"TheatreSagaModel", "TheatreSagaModel", TX4, 19, tyX4, rfl, Nat.le_of_ble_eq_true rfl, Or.inl q2396, Or.inl rfl, in_X4, tyX4_ok, nmX4, rfl, Or.inr ⟨rfl, rfl, h rfl⟩⟩, (List.forall_mem_cons.mpr ⟨fun mn => fun h => ⟨"TheatreSagaModel", "TheatreSagaModel", TX4, 19, tyX4, rfl, Nat.le_of_ble_eq_true rfl, Or.inl q2398, Or.inl rfl, in_X4, tyX4_ok, nmX4, rfl, Or.inr ⟨rfl, rfl, h rfl⟩⟩, (List.forall_mem_cons.mpr ⟨fun mn => fun h => ⟨"TheatreSagaModel", "TheatreSagaModel", TX4, 19, tyX4, rfl, Nat.le_of_ble_eq_true rfl, Or.inl q2400, Or.inl rfl, in_X4, tyX4_ok, nmX4, rfl, Or.inr ⟨rfl, rfl, h rfl⟩⟩, (List.forall_mem_cons.mpr ⟨fun mn => fun _ => ⟨"TheatreSagaModel", "TheatreSagaModel", TX4, 19, tyX4, rfl, Nat.le_of_ble_eq_true rfl, Or.inl q2403, Or.inl rfl, in_X4, tyX4_ok, nmX4, rfl, Or.inl rfl⟩, (List.forall_mem_cons.mpr ⟨fun mn => fun h => ⟨"TheatreSagaModel", "TheatreSagaModel", TX4, 19, tyX4, rfl, Nat.le_of_ble_eq_true rfl, Or.inl q2404, Or.inl rfl, in_X4, tyX4_ok, nmX4, rfl, Or.inr ⟨rfl, rfl, h rfl⟩⟩, (List.forall_mem_cons.mpr ⟨fun mn => fun _ => ⟨"TheatreSagaModel", "TheatreSagaModel", TX4, 19, tyX4, rfl, Nat.le_of_ble_eq_true rfl, Or.inl q2405, Or.inl rfl, in_X4, tyX4_ok, nmX4, rfl, Or.inl rfl⟩, (List.forall_mem_cons.mpr ⟨fun mn => fun _ => ⟨"TheatreSagaModel", "TheatreSagaModel", TX4, 19, tyX4, rfl, Nat.le_of_ble_eq_true rfl, Or.inl q2409, Or.inl rfl, in_X4, tyX4_ok, nmX4, rfl, Or.inl rfl⟩, (List.forall_mem_cons.mpr ⟨fun mn => fun _ => ⟨"TheatreSagaModel", "TheatreSagaModel", TX4, 19, tyX4, rfl, Nat.le_of_ble_eq_true rfl, Or.inl q2395, Or.inl rfl, in_X4, tyX4_ok, nmX4, rfl, Or.inl rfl⟩, (List.forall_mem_cons.mpr ⟨fun mn => fun _ => ⟨"TheatreSagaModel", "TheatreSagaModel", TX4, 19, tyX4, rfl, Nat.le_of_ble_eq_true rfl, Or.inl q2408, Or.inl rfl, in_X4, tyX4_ok, nmX4, rfl, Or.inl rfl⟩, (List.forall_mem_cons.mpr ⟨fun mn => fun _ => ⟨"TheatreSagaModel", "TheatreSagaModel", TX4, 19, tyX4, rfl, Nat.le_of_ble_eq_true rfl, Or.inl q2406, Or.inl rfl, in_X4, tyX4_ok, nmX4, rfl, Or.inl rfl⟩, (List.forall_mem_cons.mpr ⟨fun mn => fun _ => ⟨"TheatreSagaModel", "TheatreSagaModel", TX4, 19, tyX4, rfl, Nat.le_of_ble_eq_true rfl, Or.inl q2407, Or.inl rfl, in_X4, tyX4_ok, nmX4, rfl, Or.inl rfl⟩, (List.forall_mem_cons.mpr ⟨fun mn => fun _ => ⟨"TheatreSagaModel", "TheatreSagaModel", TX4, 19, tyX4, rfl, Nat.le_of_ble_eq_true rfl, Or.inl q2399, Or.inl rfl, in_X4, tyX4_ok, nmX4, rfl, Or.inl rfl⟩, (List.forall_mem_cons.mpr ⟨fun mn => fun _ => ⟨"TheatreSagaModel", "TheatreSagaModel", TX4, 19, tyX4, rfl, Nat.le_of_ble_eq_true rfl, Or.inl q2401, Or.inl rfl, in_X4, tyX4_ok, nmX4, rfl, Or.inl rfl⟩, (List.forall_mem_cons.mpr ⟨fun mn => fun _ => ⟨"TheatreSagaModel", "TheatreSagaModel", TX4, 19, tyX4, rfl, Nat.le_of_ble_eq_true rfl, Or.inl q2402, Or.inl rfl, in_X4, tyX4_ok, nmX4, rfl, Or.inl rfl⟩, (List.forall_mem_cons.mpr ⟨fun mn => fun _ => ⟨"TheatreSagaModel", "TheatreSagaModel", TX4, 19, tyX4, rfl, Nat.le_of_ble_eq_true rfl, Or.inl q2397, Or.inl rfl, in_X4, tyX4_ok, nmX4, rfl, Or.inl rfl⟩, (fun _ h => nomatch h)⟩)⟩)⟩)⟩)⟩)⟩)⟩)⟩)⟩)⟩)⟩)⟩)⟩)⟩)⟩)⟩)⟩)⟩)⟩)
def PK42 : List (Nat × Nat × (Nat × FieldType × Bool)) := PK42_0
theorem PK42_ok (X : XT) : ∀ r ∈ PK42, ∀ mn : String, (r.2.2.2.2 = true → mn = "<init>") → FP (mkG X) (cn 42) mn r.1 r.2.1 r.2.2.1 r.2.2.2.1 := PK42_0_ok X
def PK2_0 : List (Nat × Nat × (Nat × FieldType × Bool)) := [(15, 13, (0, (.array .byte), false)), (22, 13, (1, .byte, false)), (73, 13, (2, .boolean, false)), (79, 13, (3, .int, false))]
theorem PK2_0_ok (X : XT) : ∀ r ∈ PK2_0, ∀ mn : String, (r.2.2.2.2 = true → mn = "<init>") → FP (mkG X) (cn 2) mn r.1 r.2.1 r.2.2.1 r.2.2.2.1 := (List.forall_mem_cons.mpr ⟨fun mn => fun _ => ⟨"java/lang/StringBuilder", "java/lang/AbstractStringBuilder", TJ3, 4, tyJ3, rfl, Nat.le_of_ble_eq_true rfl, Or.inl q173, Or.inl rfl, in_J3, tyJ3_ok, nmJ3, rfl, Or.inl rfl⟩, (List.forall_mem_cons.mpr ⟨fun mn => fun _ => ⟨"java/lang/StringBuilder", "java/lang/AbstractStringBuilder", TJ3, 4, tyJ3, rfl, Nat.le_of_ble_eq_true rfl, Or.inl q174, Or.inl rfl, in_J3, tyJ3_ok, nmJ3, rfl, Or.inl rfl⟩, (List.forall_mem_cons.mpr ⟨fun mn => fun _ => ⟨"java/lang/StringBuilder", "java/lang/AbstractStringBuilder", TJ3, 4, tyJ3, rfl, Nat.le_of_ble_eq_true rfl, Or.inl q175, Or.inl rfl, in_J3, tyJ3_ok, nmJ3, rfl, Or.inl rfl⟩, (List.forall_mem_cons.mpr ⟨fun mn => fun _ => ⟨"java/lang/StringBuilder", "java/lang/AbstractStringBuilder", TJ3, 4, tyJ3, rfl, Nat.le_of_ble_eq_true rfl, Or.inl q177, Or.inl rfl, in_J3, tyJ3_ok, nmJ3, rfl, Or.inl rfl⟩, (fun _ h => nomatch h)⟩)⟩)⟩)⟩)
def PK2 : List (Nat × Nat × (Nat × FieldType × Bool)) := PK2_0
theorem PK2_ok (X : XT) : ∀ r ∈ PK2, ∀ mn : String, (r.2.2.2.2 = true → mn = "<init>") → FP (mkG X) (cn 2) mn r.1 r.2.1 r.2.2.1 r.2.2.2.1 := PK2_0_ok X
def PK20_0 : List (Nat × Nat × (Nat × FieldType × Bool)) := [(205, 20, (0, .int, true))]
theorem PK20_0_ok (X : XT) : ∀ r ∈ PK20_0, ∀ mn : String, (r.2.2.2.2 = true → mn = "<init>") → FP (mkG X) (cn 20) mn r.1 r.2.1 r.2.2.1 r.2.2.2.1 := (List.forall_mem_cons.mpr ⟨fun mn => fun h => ⟨"java/lang/Integer", "java/lang/Integer", TJ20, 1, tyJ20, rfl, Nat.le_of_ble_eq_true rfl, Or.inl q1948, Or.inl rfl, in_J20, tyJ20_ok, nmJ20, rfl, Or.inr ⟨rfl, rfl, h rfl⟩⟩, (fun _ h => nomatch h)⟩)
def PK20 : List (Nat × Nat × (Nat × FieldType × Bool)) := PK20_0
theorem PK20_ok (X : XT) : ∀ r ∈ PK20, ∀ mn : String, (r.2.2.2.2 = true → mn = "<init>") → FP (mkG X) (cn 20) mn r.1 r.2.1 r.2.2.1 r.2.2.2.1 := PK20_0_ok X
def PK4_0 : List (Nat × Nat × (Nat × FieldType × Bool)) := [(9, 14, (0, (.array .byte), true)), (15, 14, (1, .byte, true)), (19, 14, (2, .int, false)), (23, 14, (3, .boolean, false)), (1048, 13, (2, .boolean, false))]
theorem PK4_0_ok (X : XT) : ∀ r ∈ PK4_0, ∀ mn : String, (r.2.2.2.2 = true → mn = "<init>") → FP (mkG X) (cn 4) mn r.1 r.2.1 r.2.2.1 r.2.2.2.1 := (List.forall_mem_cons.mpr ⟨fun mn => fun h => ⟨"java/lang/String", "java/lang/String", TJ4, 4, tyJ4, rfl, Nat.le_of_ble_eq_true rfl, Or.inl q790, Or.inl rfl, in_J4, tyJ4_ok, nmJ4, rfl, Or.inr ⟨rfl, rfl, h rfl⟩⟩, (List.forall_mem_cons.mpr ⟨fun mn => fun h => ⟨"java/lang/String", "java/lang/String", TJ4, 4, tyJ4, rfl, Nat.le_of_ble_eq_true rfl, Or.inl q791, Or.inl rfl, in_J4, tyJ4_ok, nmJ4, rfl, Or.inr ⟨rfl, rfl, h rfl⟩⟩, (List.forall_mem_cons.mpr ⟨fun mn => fun _ => ⟨"java/lang/String", "java/lang/String", TJ4, 4, tyJ4, rfl, Nat.le_of_ble_eq_true rfl, Or.inl q792, Or.inl rfl, in_J4, tyJ4_ok, nmJ4, rfl, Or.inl rfl⟩, (List.forall_mem_cons.mpr ⟨fun mn => fun _ => ⟨"java/lang/String", "java/lang/String", TJ4, 4, tyJ4, rfl, Nat.le_of_ble_eq_true rfl, Or.inl q793, Or.inl rfl, in_J4, tyJ4_ok, nmJ4, rfl, Or.inl rfl⟩, (List.forall_mem_cons.mpr ⟨fun mn => fun _ => ⟨"java/lang/StringBuilder", "java/lang/AbstractStringBuilder", TJ3, 4, tyJ3, rfl, Nat.le_of_ble_eq_true rfl, Or.inl q176, Or.inl rfl, in_J3, tyJ3_ok, nmJ3, rfl, Or.inl rfl⟩, (fun _ h => nomatch h)⟩)⟩)⟩)⟩)⟩)
def PK4 : List (Nat × Nat × (Nat × FieldType × Bool)) := PK4_0
theorem PK4_ok (X : XT) : ∀ r ∈ PK4, ∀ mn : String, (r.2.2.2.2 = true → mn = "<init>") → FP (mkG X) (cn 4) mn r.1 r.2.1 r.2.2.1 r.2.2.2.1 := PK4_0_ok X
def PK13_0 : List (Nat × Nat × (Nat × FieldType × Bool)) := [(7, 6, (0, (.object "java/lang/Throwable"), false)), (7, 11, (0, (.object "java/lang/Throwable"), false)), (17, 6, (1, (.array (.object "java/lang/StackTraceElement")), false)), (17, 11, (1, (.array (.object "java/lang/StackTraceElement")), false)), (24, 6, (2, (.object "java/util/List"), false)), (24, 11, (2, (.object "java/util/List"), false)), (31, 6, (3, (.object "java/lang/String"), false)), (31, 11, (3, (.object "java/lang/String"), false)), (198, 6, (4, (.object "java/lang/Object"), false)), (198, 11, (4, (.object "java/lang/Object"), false))]
theorem PK13_0_ok (X : XT) : ∀ r ∈ PK13_0, ∀ mn : String, (r.2.2.2.2 = true → mn = "<init>") → FP (mkG X) (cn 13) mn r.1 r.2.1 r.2.2.1 r.2.2.2.1 := (List.forall_mem_cons.mpr ⟨fun mn => fun _ => ⟨"TheatreSaga$Refusal", "java/lang/Throwable", TX7, 8, tyX7, rfl, Nat.le_of_ble_eq_true rfl, Or.inl q766, Or.inl rfl, in_X7, tyX7_ok, nmX7, rfl, Or.inl rfl⟩, (List.forall_mem_cons.mpr ⟨fun mn => fun _ => ⟨"TheatreSaga$FaultException", "java/lang/Throwable", TX12, 7, tyX12, rfl, Nat.le_of_ble_eq_true rfl, Or.inl q766, Or.inl rfl, in_X12, tyX12_ok, nmX12, rfl, Or.inl rfl⟩, (List.forall_mem_cons.mpr ⟨fun mn => fun _ => ⟨"TheatreSaga$Refusal", "java/lang/Throwable", TX7, 8, tyX7, rfl, Nat.le_of_ble_eq_true rfl, Or.inl q767, Or.inl rfl, in_X7, tyX7_ok, nmX7, rfl, Or.inl rfl⟩, (List.forall_mem_cons.mpr ⟨fun mn => fun _ => ⟨"TheatreSaga$FaultException", "java/lang/Throwable", TX12, 7, tyX12, rfl, Nat.le_of_ble_eq_true rfl, Or.inl q767, Or.inl rfl, in_X12, tyX12_ok, nmX12, rfl, Or.inl rfl⟩, (List.forall_mem_cons.mpr ⟨fun mn => fun _ => ⟨"TheatreSaga$Refusal", "java/lang/Throwable", TX7, 8, tyX7, rfl, Nat.le_of_ble_eq_true rfl, Or.inl q768, Or.inl rfl, in_X7, tyX7_ok, nmX7, rfl, Or.inl rfl⟩, (List.forall_mem_cons.mpr ⟨fun mn => fun _ => ⟨"TheatreSaga$FaultException", "java/lang/Throwable", TX12, 7, tyX12, rfl, Nat.le_of_ble_eq_true rfl, Or.inl q768, Or.inl rfl, in_X12, tyX12_ok, nmX12, rfl, Or.inl rfl⟩, (List.forall_mem_cons.mpr ⟨fun mn => fun _ => ⟨"TheatreSaga$Refusal", "java/lang/Throwable", TX7, 8, tyX7, rfl, Nat.le_of_ble_eq_true rfl, Or.inl q765, Or.inl rfl, in_X7, tyX7_ok, nmX7, rfl, Or.inl rfl⟩, (List.forall_mem_cons.mpr ⟨fun mn => fun _ => ⟨"TheatreSaga$FaultException", "java/lang/Throwable", TX12, 7, tyX12, rfl, Nat.le_of_ble_eq_true rfl, Or.inl q765, Or.inl rfl, in_X12, tyX12_ok, nmX12, rfl, Or.inl rfl⟩, (List.forall_mem_cons.mpr ⟨fun mn => fun _ => ⟨"TheatreSaga$Refusal", "java/lang/Throwable", TX7, 8, tyX7, rfl, Nat.le_of_ble_eq_true rfl, Or.inl q764, Or.inl rfl, in_X7, tyX7_ok, nmX7, rfl, Or.inl rfl⟩, (List.forall_mem_cons.mpr ⟨fun mn => fun _ => ⟨"TheatreSaga$FaultException", "java/lang/Throwable", TX12, 7, tyX12, rfl, Nat.le_of_ble_eq_true rfl, Or.inl q764, Or.inl rfl, in_X12, tyX12_ok, nmX12, rfl, Or.inl rfl⟩, (fun _ h => nomatch h)⟩)⟩)⟩)⟩)⟩)⟩)⟩)⟩)⟩)⟩)
def PK13 : List (Nat × Nat × (Nat × FieldType × Bool)) := PK13_0
theorem PK13_ok (X : XT) : ∀ r ∈ PK13, ∀ mn : String, (r.2.2.2.2 = true → mn = "<init>") → FP (mkG X) (cn 13) mn r.1 r.2.1 r.2.2.1 r.2.2.2.1 := PK13_0_ok X
def PK6_0 : List (Nat × Nat × (Nat × FieldType × Bool)) := [(7, 15, (0, .int, false)), (7, 17, (0, .int, false))]
theorem PK6_0_ok (X : XT) : ∀ r ∈ PK6_0, ∀ mn : String, (r.2.2.2.2 = true → mn = "<init>") → FP (mkG X) (cn 6) mn r.1 r.2.1 r.2.2.1 r.2.2.2.1 := (List.forall_mem_cons.mpr ⟨fun mn => fun _ => ⟨"java/util/ArrayList", "java/util/AbstractList", TJ7, 3, tyJ7, rfl, Nat.le_of_ble_eq_true rfl, Or.inl q209, Or.inl rfl, in_J7, tyJ7_ok, nmJ7, rfl, Or.inl rfl⟩, (List.forall_mem_cons.mpr ⟨fun mn => fun _ => ⟨"java/util/LinkedList", "java/util/AbstractList", TJ32, 4, tyJ32, rfl, Nat.le_of_ble_eq_true rfl, Or.inl q209, Or.inl rfl, in_J32, tyJ32_ok, nmJ32, rfl, Or.inl rfl⟩, (fun _ h => nomatch h)⟩)⟩)
def PK6 : List (Nat × Nat × (Nat × FieldType × Bool)) := PK6_0
theorem PK6_ok (X : XT) : ∀ r ∈ PK6, ∀ mn : String, (r.2.2.2.2 = true → mn = "<init>") → FP (mkG X) (cn 6) mn r.1 r.2.1 r.2.2.1 r.2.2.2.1 := PK6_0_ok X
def PK22_0 : List (Nat × Nat × (Nat × FieldType × Bool)) := [(20, 15, (0, .int, false)), (20, 17, (0, .int, false))]
theorem PK22_0_ok (X : XT) : ∀ r ∈ PK22_0, ∀ mn : String, (r.2.2.2.2 = true → mn = "<init>") → FP (mkG X) (cn 22) mn r.1 r.2.1 r.2.2.1 r.2.2.2.1 := (List.forall_mem_cons.mpr ⟨fun mn => fun _ => ⟨"java/util/ArrayList", "java/util/AbstractList", TJ7, 3, tyJ7, rfl, Nat.le_of_ble_eq_true rfl, Or.inl q214, Or.inl rfl, in_J7, tyJ7_ok, nmJ7, rfl, Or.inl rfl⟩, (List.forall_mem_cons.mpr ⟨fun mn => fun _ => ⟨"java/util/LinkedList", "java/util/AbstractList", TJ32, 4, tyJ32, rfl, Nat.le_of_ble_eq_true rfl, Or.inl q214, Or.inl rfl, in_J32, tyJ32_ok, nmJ32, rfl, Or.inl rfl⟩, (fun _ h => nomatch h)⟩)⟩)
def PK22 : List (Nat × Nat × (Nat × FieldType × Bool)) := PK22_0
theorem PK22_ok (X : XT) : ∀ r ∈ PK22, ∀ mn : String, (r.2.2.2.2 = true → mn = "<init>") → FP (mkG X) (cn 22) mn r.1 r.2.1 r.2.2.1 r.2.2.2.1 := PK22_0_ok X
def PK1_0 : List (Nat × Nat × (Nat × FieldType × Bool)) := [(3, 12, (0, (.array (.object "java/lang/Object")), false)), (20, 12, (2, .int, false)), (24, 12, (1, .int, false))]
theorem PK1_0_ok (X : XT) : ∀ r ∈ PK1_0, ∀ mn : String, (r.2.2.2.2 = true → mn = "<init>") → FP (mkG X) (cn 1) mn r.1 r.2.1 r.2.2.1 r.2.2.2.1 := (List.forall_mem_cons.mpr ⟨fun mn => fun _ => ⟨"java/util/ArrayDeque", "java/util/ArrayDeque", TJ1, 3, tyJ1, rfl, Nat.le_of_ble_eq_true rfl, Or.inl q145, Or.inl rfl, in_J1, tyJ1_ok, nmJ1, rfl, Or.inl rfl⟩, (List.forall_mem_cons.mpr ⟨fun mn => fun _ => ⟨"java/util/ArrayDeque", "java/util/ArrayDeque", TJ1, 3, tyJ1, rfl, Nat.le_of_ble_eq_true rfl, Or.inl q147, Or.inl rfl, in_J1, tyJ1_ok, nmJ1, rfl, Or.inl rfl⟩, (List.forall_mem_cons.mpr ⟨fun mn => fun _ => ⟨"java/util/ArrayDeque", "java/util/ArrayDeque", TJ1, 3, tyJ1, rfl, Nat.le_of_ble_eq_true rfl, Or.inl q146, Or.inl rfl, in_J1, tyJ1_ok, nmJ1, rfl, Or.inl rfl⟩, (fun _ h => nomatch h)⟩)⟩)⟩)
def PK1 : List (Nat × Nat × (Nat × FieldType × Bool)) := PK1_0
theorem PK1_ok (X : XT) : ∀ r ∈ PK1, ∀ mn : String, (r.2.2.2.2 = true → mn = "<init>") → FP (mkG X) (cn 1) mn r.1 r.2.1 r.2.2.1 r.2.2.2.1 := PK1_0_ok X
def PK7_0 : List (Nat × Nat × (Nat × FieldType × Bool)) := [(9, 15, (1, (.array (.object "java/lang/Object")), false)), (48, 15, (2, .int, false)), (63, 15, (0, .int, false)), (63, 17, (0, .int, false))]
theorem PK7_0_ok (X : XT) : ∀ r ∈ PK7_0, ∀ mn : String, (r.2.2.2.2 = true → mn = "<init>") → FP (mkG X) (cn 7) mn r.1 r.2.1 r.2.2.1 r.2.2.2.1 := (List.forall_mem_cons.mpr ⟨fun mn => fun _ => ⟨"java/util/ArrayList", "java/util/ArrayList", TJ7, 3, tyJ7, rfl, Nat.le_of_ble_eq_true rfl, Or.inl q205, Or.inl rfl, in_J7, tyJ7_ok, nmJ7, rfl, Or.inl rfl⟩, (List.forall_mem_cons.mpr ⟨fun mn => fun _ => ⟨"java/util/ArrayList", "java/util/ArrayList", TJ7, 3, tyJ7, rfl, Nat.le_of_ble_eq_true rfl, Or.inl q208, Or.inl rfl, in_J7, tyJ7_ok, nmJ7, rfl, Or.inl rfl⟩, (List.forall_mem_cons.mpr ⟨fun mn => fun _ => ⟨"java/util/ArrayList", "java/util/ArrayList", TJ7, 3, tyJ7, rfl, Nat.le_of_ble_eq_true rfl, Or.inl q216, Or.inr q213, in_J7, tyJ7_ok, nmJ7, rfl, Or.inl rfl⟩, (List.forall_mem_cons.mpr ⟨fun mn => fun _ => ⟨"java/util/LinkedList", "java/util/ArrayList", TJ32, 4, tyJ32, rfl, Nat.le_of_ble_eq_true rfl, Or.inl q216, Or.inr q213, in_J32, tyJ32_ok, nmJ32, rfl, Or.inl rfl⟩, (fun _ h => nomatch h)⟩)⟩)⟩)⟩)
def PK7 : List (Nat × Nat × (Nat × FieldType × Bool)) := PK7_0
theorem PK7_ok (X : XT) : ∀ r ∈ PK7, ∀ mn : String, (r.2.2.2.2 = true → mn = "<init>") → FP (mkG X) (cn 7) mn r.1 r.2.1 r.2.2.1 r.2.2.2.1 := PK7_0_ok X
def PK12_0 : List (Nat × Nat × (Nat × FieldType × Bool)) := [(1, 16, (3, (.object "java/util/ArrayList"), true)), (13, 16, (1, .int, false)), (17, 15, (0, .int, false)), (17, 17, (0, .int, false)), (22, 16, (2, .int, false)), (25, 16, (0, .int, false)), (28, 15, (2, .int, false)), (37, 15, (1, (.array (.object "java/lang/Object")), false))]
theorem PK12_0_ok (X : XT) : ∀ r ∈ PK12_0, ∀ mn : String, (r.2.2.2.2 = true → mn = "<init>") → FP (mkG X) (cn 12) mn r.1 r.2.1 r.2.2.1 r.2.2.2.1 := (List.forall_mem_cons.mpr ⟨fun mn => fun h => ⟨"java/util/ArrayList$Itr", "java/util/ArrayList$Itr", TJ12, 4, tyJ12, rfl, Nat.le_of_ble_eq_true rfl, Or.inl q484, Or.inl rfl, in_J12, tyJ12_ok, nmJ12, rfl, Or.inr ⟨rfl, rfl, h rfl⟩⟩, (List.forall_mem_cons.mpr ⟨fun mn => fun _ => ⟨"java/util/ArrayList$Itr", "java/util/ArrayList$Itr", TJ12, 4, tyJ12, rfl, Nat.le_of_ble_eq_true rfl, Or.inl q482, Or.inl rfl, in_J12, tyJ12_ok, nmJ12, rfl, Or.inl rfl⟩, (List.forall_mem_cons.mpr ⟨fun mn => fun _ => ⟨"java/util/ArrayList", "java/util/ArrayList", TJ7, 3, tyJ7, rfl, Nat.le_of_ble_eq_true rfl, Or.inl q212, Or.inr q213, in_J7, tyJ7_ok, nmJ7, rfl, Or.inl rfl⟩, (List.forall_mem_cons.mpr ⟨fun mn => fun _ => ⟨"java/util/LinkedList", "java/util/ArrayList", TJ32, 4, tyJ32, rfl, Nat.le_of_ble_eq_true rfl, Or.inl q212, Or.inr q213, in_J32, tyJ32_ok, nmJ32, rfl, Or.inl rfl⟩, (List.forall_mem_cons.mpr ⟨fun mn => fun _ => ⟨"java/util/ArrayList$Itr", "java/util/ArrayList$Itr", TJ12, 4, tyJ12, rfl, Nat.le_of_ble_eq_true rfl, Or.inl q483, Or.inl rfl, in_J12, tyJ12_ok, nmJ12, rfl, Or.inl rfl⟩, (List.forall_mem_cons.mpr ⟨fun mn => fun _ => ⟨"java/util/ArrayList$Itr", "java/util/ArrayList$Itr", TJ12, 4, tyJ12, rfl, Nat.le_of_ble_eq_true rfl, Or.inl q481, Or.inl rfl, in_J12, tyJ12_ok, nmJ12, rfl, Or.inl rfl⟩, (List.forall_mem_cons.mpr ⟨fun mn => fun _ => ⟨"java/util/ArrayList", "java/util/ArrayList", TJ7, 3, tyJ7, rfl, Nat.le_of_ble_eq_true rfl, Or.inr ⟨"java/util/ArrayList", (List.mem_of_getElem? (i := 0) rfl)⟩, Or.inl rfl, in_J7, tyJ7_ok, nmJ7, rfl, Or.inl rfl⟩, (List.forall_mem_cons.mpr ⟨fun mn => fun _ => ⟨"java/util/ArrayList", "java/util/ArrayList", TJ7, 3, tyJ7, rfl, Nat.le_of_ble_eq_true rfl, Or.inl q206, Or.inl rfl, in_J7, tyJ7_ok, nmJ7, rfl, Or.inl rfl⟩, (fun _ h => nomatch h)⟩)⟩)⟩)⟩)⟩)⟩)⟩)⟩)
def PK12 : List (Nat × Nat × (Nat × FieldType × Bool)) := PK12_0
theorem PK12_ok (X : XT) : ∀ r ∈ PK12, ∀ mn : String, (r.2.2.2.2 = true → mn = "<init>") → FP (mkG X) (cn 12) mn r.1 r.2.1 r.2.2.1 r.2.2.2.1 := PK12_0_ok X
def PK23_0 : List (Nat × Nat × (Nat × FieldType × Bool)) := [(13, 16, (0, .int, false))]
theorem PK23_0_ok (X : XT) : ∀ r ∈ PK23_0, ∀ mn : String, (r.2.2.2.2 = true → mn = "<init>") → FP (mkG X) (cn 23) mn r.1 r.2.1 r.2.2.1 r.2.2.2.1 := (List.forall_mem_cons.mpr ⟨fun mn => fun _ => ⟨"java/util/ArrayList$Itr", "java/util/ArrayList$ListItr", TJ12, 4, tyJ12, rfl, Nat.le_of_ble_eq_true rfl, Or.inl q479, Or.inr q480, in_J12, tyJ12_ok, nmJ12, rfl, Or.inl rfl⟩, (fun _ h => nomatch h)⟩)
def PK23 : List (Nat × Nat × (Nat × FieldType × Bool)) := PK23_0
theorem PK23_ok (X : XT) : ∀ r ∈ PK23, ∀ mn : String, (r.2.2.2.2 = true → mn = "<init>") → FP (mkG X) (cn 23) mn r.1 r.2.1 r.2.2.1 r.2.2.2.1 := PK23_0_ok X
def PK32_0 : List (Nat × Nat × (Nat × FieldType × Bool)) := [(7, 17, (1, .int, false)), (18, 17, (2, (.object "java/util/LinkedList$Node"), false)), (27, 17, (3, (.object "java/util/LinkedList$Node"), false)), (30, 18, (2, (.object "java/util/LinkedList$Node"), false)), (33, 15, (0, .int, false)), (33, 17, (0, .int, false)), (36, 18, (1, (.object "java/util/LinkedList$Node"), false)), (39, 18, (0, (.object "java/lang/Object"), false))]
theorem PK32_0_ok (X : XT) : ∀ r ∈ PK32_0, ∀ mn : String, (r.2.2.2.2 = true → mn = "<init>") → FP (mkG X) (cn 32) mn r.1 r.2.1 r.2.2.1 r.2.2.2.1 := (List.forall_mem_cons.mpr ⟨fun mn => fun _ => ⟨"java/util/LinkedList", "java/util/LinkedList", TJ32, 4, tyJ32, rfl, Nat.le_of_ble_eq_true rfl, Or.inl q1909, Or.inl rfl, in_J32, tyJ32_ok, nmJ32, rfl, Or.inl rfl⟩, (List.forall_mem_cons.mpr ⟨fun mn => fun _ => ⟨"java/util/LinkedList", "java/util/LinkedList", TJ32, 4, tyJ32, rfl, Nat.le_of_ble_eq_true rfl, Or.inl q1911, Or.inl rfl, in_J32, tyJ32_ok, nmJ32, rfl, Or.inl rfl⟩, (List.forall_mem_cons.mpr ⟨fun mn => fun _ => ⟨"java/util/LinkedList", "java/util/LinkedList", TJ32, 4, tyJ32, rfl, Nat.le_of_ble_eq_true rfl, Or.inl q1912, Or.inl rfl, in_J32, tyJ32_ok, nmJ32, rfl, Or.inl rfl⟩, (List.forall_mem_cons.mpr ⟨fun mn => fun _ => ⟨"java/util/LinkedList$Node", "java/util/LinkedList$Node", TJ11, 3, tyJ11, rfl, Nat.le_of_ble_eq_true rfl, Or.inl q360, Or.inl rfl, in_J11, tyJ11_ok, nmJ11, rfl, Or.inl rfl⟩, (List.forall_mem_cons.mpr ⟨fun mn => fun _ => ⟨"java/util/ArrayList", "java/util/LinkedList", TJ7, 3, tyJ7, rfl, Nat.le_of_ble_eq_true rfl, Or.inl q215, Or.inr q211, in_J7, tyJ7_ok, nmJ7, rfl, Or.inl rfl⟩, (List.forall_mem_cons.mpr ⟨fun mn => fun _ => ⟨"java/util/LinkedList", "java/util/LinkedList", TJ32, 4, tyJ32, rfl, Nat.le_of_ble_eq_true rfl, Or.inl q215, Or.inr q211, in_J32, tyJ32_ok, nmJ32, rfl, Or.inl rfl⟩, (List.forall_mem_cons.mpr ⟨fun mn => fun _ => ⟨"java/util/LinkedList$Node", "java/util/LinkedList$Node", TJ11, 3, tyJ11, rfl, Nat.le_of_ble_eq_true rfl, Or.inl q358, Or.inl rfl, in_J11, tyJ11_ok, nmJ11, rfl, Or.inl rfl⟩, (List.forall_mem_cons.mpr ⟨fun mn => fun _ => ⟨"java/util/LinkedList$Node", "java/util/LinkedList$Node", TJ11, 3, tyJ11, rfl, Nat.le_of_ble_eq_true rfl, Or.inl q355, Or.inl rfl, in_J11, tyJ11_ok, nmJ11, rfl, Or.inl rfl⟩, (fun _ h => nomatch h)⟩)⟩)⟩)⟩)⟩)⟩)⟩)⟩)
def PK32 : List (Nat × Nat × (Nat × FieldType × Bool)) := PK32_0
theorem PK32_ok (X : XT) : ∀ r ∈ PK32, ∀ mn : String, (r.2.2.2.2 = true → mn = "<init>") → FP (mkG X) (cn 32) mn r.1 r.2.1 r.2.2.1 r.2.2.2.1 := PK32_0_ok X
def PK24_0 : List (Nat × Nat × (Nat × FieldType × Bool)) := [(1, 19, (4, (.object "java/util/LinkedList"), true)), (13, 15, (0, .int, false)), (13, 17, (0, .int, false)), (19, 19, (3, .int, false)), (22, 17, (1, .int, false)), (29, 19, (1, (.object "java/util/LinkedList$Node"), false)), (33, 19, (2, .int, false)), (46, 19, (0, (.object "java/util/LinkedList$Node"), false)), (49, 18, (1, (.object "java/util/LinkedList$Node"), false)), (52, 18, (0, (.object "java/lang/Object"), false))]
theorem PK24_0_ok (X : XT) : ∀ r ∈ PK24_0, ∀ mn : String, (r.2.2.2.2 = true → mn = "<init>") → FP (mkG X) (cn 24) mn r.1 r.2.1 r.2.2.1 r.2.2.2.1 := (List.forall_mem_cons.mpr ⟨fun mn => fun h => ⟨"java/util/LinkedList$ListItr", "java/util/LinkedList$ListItr", TJ24, 5, tyJ24, rfl, Nat.le_of_ble_eq_true rfl, Or.inl q862, Or.inl rfl, in_J24, tyJ24_ok, nmJ24, rfl, Or.inr ⟨rfl, rfl, h rfl⟩⟩, (List.forall_mem_cons.mpr ⟨fun mn => fun _ => ⟨"java/util/ArrayList", "java/util/LinkedList", TJ7, 3, tyJ7, rfl, Nat.le_of_ble_eq_true rfl, Or.inl q210, Or.inr q211, in_J7, tyJ7_ok, nmJ7, rfl, Or.inl rfl⟩, (List.forall_mem_cons.mpr ⟨fun mn => fun _ => ⟨"java/util/LinkedList", "java/util/LinkedList", TJ32, 4, tyJ32, rfl, Nat.le_of_ble_eq_true rfl, Or.inl q210, Or.inr q211, in_J32, tyJ32_ok, nmJ32, rfl, Or.inl rfl⟩, (List.forall_mem_cons.mpr ⟨fun mn => fun _ => ⟨"java/util/LinkedList$ListItr", "java/util/LinkedList$ListItr", TJ24, 5, tyJ24, rfl, Nat.le_of_ble_eq_true rfl, Or.inl q861, Or.inl rfl, in_J24, tyJ24_ok, nmJ24, rfl, Or.inl rfl⟩, (List.forall_mem_cons.mpr ⟨fun mn => fun _ => ⟨"java/util/LinkedList", "java/util/LinkedList", TJ32, 4, tyJ32, rfl, Nat.le_of_ble_eq_true rfl, Or.inl q1910, Or.inl rfl, in_J32, tyJ32_ok, nmJ32, rfl, Or.inl rfl⟩, (List.forall_mem_cons.mpr ⟨fun mn => fun _ => ⟨"java/util/LinkedList$ListItr", "java/util/LinkedList$ListItr", TJ24, 5, tyJ24, rfl, Nat.le_of_ble_eq_true rfl, Or.inl q859, Or.inl rfl, in_J24, tyJ24_ok, nmJ24, rfl, Or.inl rfl⟩, (List.forall_mem_cons.mpr ⟨fun mn => fun _ => ⟨"java/util/LinkedList$ListItr", "java/util/LinkedList$ListItr", TJ24, 5, tyJ24, rfl, Nat.le_of_ble_eq_true rfl, Or.inl q860, Or.inl rfl, in_J24, tyJ24_ok, nmJ24, rfl, Or.inl rfl⟩, (List.forall_mem_cons.mpr ⟨fun mn => fun _ => ⟨"java/util/LinkedList$ListItr", "java/util/LinkedList$ListItr", TJ24, 5, tyJ24, rfl, Nat.le_of_ble_eq_true rfl, Or.inl q858, Or.inl rfl, in_J24, tyJ24_ok, nmJ24, rfl, Or.inl rfl⟩, (List.forall_mem_cons.mpr ⟨fun mn => fun _ => ⟨"java/util/LinkedList$Node", "java/util/LinkedList$Node", TJ11, 3, tyJ11, rfl, Nat.le_of_ble_eq_true rfl, Or.inl q357, Or.inl rfl, in_J11, tyJ11_ok, nmJ11, rfl, Or.inl rfl⟩, (List.forall_mem_cons.mpr ⟨fun mn => fun _ => ⟨"java/util/LinkedList$Node", "java/util/LinkedList$Node", TJ11, 3, tyJ11, rfl, Nat.le_of_ble_eq_true rfl, Or.inl q354, Or.inl rfl, in_J11, tyJ11_ok, nmJ11, rfl, Or.inl rfl⟩, (fun _ h => nomatch h)⟩)⟩)⟩)⟩)⟩)⟩)⟩)⟩)⟩)⟩)
def PK24 : List (Nat × Nat × (Nat × FieldType × Bool)) := PK24_0
theorem PK24_ok (X : XT) : ∀ r ∈ PK24, ∀ mn : String, (r.2.2.2.2 = true → mn = "<init>") → FP (mkG X) (cn 24) mn r.1 r.2.1 r.2.2.1 r.2.2.2.1 := PK24_0_ok X
def PK11_0 : List (Nat × Nat × (Nat × FieldType × Bool)) := [(7, 18, (0, (.object "java/lang/Object"), false)), (13, 18, (1, (.object "java/util/LinkedList$Node"), false)), (17, 18, (2, (.object "java/util/LinkedList$Node"), false))]
theorem PK11_0_ok (X : XT) : ∀ r ∈ PK11_0, ∀ mn : String, (r.2.2.2.2 = true → mn = "<init>") → FP (mkG X) (cn 11) mn r.1 r.2.1 r.2.2.1 r.2.2.2.1 := (List.forall_mem_cons.mpr ⟨fun mn => fun _ => ⟨"java/util/LinkedList$Node", "java/util/LinkedList$Node", TJ11, 3, tyJ11, rfl, Nat.le_of_ble_eq_true rfl, Or.inl q353, Or.inl rfl, in_J11, tyJ11_ok, nmJ11, rfl, Or.inl rfl⟩, (List.forall_mem_cons.mpr ⟨fun mn => fun _ => ⟨"java/util/LinkedList$Node", "java/util/LinkedList$Node", TJ11, 3, tyJ11, rfl, Nat.le_of_ble_eq_true rfl, Or.inl q356, Or.inl rfl, in_J11, tyJ11_ok, nmJ11, rfl, Or.inl rfl⟩, (List.forall_mem_cons.mpr ⟨fun mn => fun _ => ⟨"java/util/LinkedList$Node", "java/util/LinkedList$Node", TJ11, 3, tyJ11, rfl, Nat.le_of_ble_eq_true rfl, Or.inl q359, Or.inl rfl, in_J11, tyJ11_ok, nmJ11, rfl, Or.inl rfl⟩, (fun _ h => nomatch h)⟩)⟩)⟩)
def PK11 : List (Nat × Nat × (Nat × FieldType × Bool)) := PK11_0
theorem PK11_ok (X : XT) : ∀ r ∈ PK11, ∀ mn : String, (r.2.2.2.2 = true → mn = "<init>") → FP (mkG X) (cn 11) mn r.1 r.2.1 r.2.2.1 r.2.2.2.1 := PK11_0_ok X
def PKT : Nat → List (Nat × Nat × (Nat × FieldType × Bool))
  | 39 => PK39
  | 48 => PK48
  | 44 => PK44
  | 50 => PK50
  | 49 => PK49
  | 45 => PK45
  | 46 => PK46
  | 40 => PK40
  | 43 => PK43
  | 41 => PK41
  | 47 => PK47
  | 42 => PK42
  | 2 => PK2
  | 20 => PK20
  | 4 => PK4
  | 13 => PK13
  | 6 => PK6
  | 22 => PK22
  | 1 => PK1
  | 7 => PK7
  | 12 => PK12
  | 23 => PK23
  | 32 => PK32
  | 24 => PK24
  | 11 => PK11
  | _ => []
def PK (o i c : Nat) : Option ((Nat × FieldType × Bool)) := lk (PKT o) i c
theorem PK_ok (X : XT) (o : Nat) : ∀ r ∈ PKT o, ∀ mn : String, (r.2.2.2.2 = true → mn = "<init>") → FP (mkG X) (cn o) mn r.1 r.2.1 r.2.2.1 r.2.2.2.1 := by
  unfold PKT
  split
  · exact PK39_ok X
  · exact PK48_ok X
  · exact PK44_ok X
  · exact PK50_ok X
  · exact PK49_ok X
  · exact PK45_ok X
  · exact PK46_ok X
  · exact PK40_ok X
  · exact PK43_ok X
  · exact PK41_ok X
  · exact PK47_ok X
  · exact PK42_ok X
  · exact PK2_ok X
  · exact PK20_ok X
  · exact PK4_ok X
  · exact PK13_ok X
  · exact PK6_ok X
  · exact PK22_ok X
  · exact PK1_ok X
  · exact PK7_ok X
  · exact PK12_ok X
  · exact PK23_ok X
  · exact PK32_ok X
  · exact PK24_ok X
  · exact PK11_ok X
  · exact fun _ h => nomatch h
theorem pk_39_29_0 : PK 39 29 0 = some ((1, (.object "java/util/ArrayDeque"), true)) := rfl
theorem pk_39_36_0 : PK 39 36 0 = some ((2, (.object "java/lang/StringBuilder"), true)) := rfl
theorem pk_39_43_0 : PK 39 43 0 = some ((0, (.object "TheatreSaga$Theatre"), false)) := rfl
theorem pk_39_49_0 : PK 39 49 0 = some ((3, (.object "java/lang/CharSequence"), false)) := rfl
theorem pk_39_53_0 : PK 39 53 0 = some ((4, .int, false)) := rfl
theorem pk_39_75_0 : PK 39 75 0 = some ((5, .int, false)) := rfl
theorem pk_39_79_0 : PK 39 79 0 = some ((6, .int, false)) := rfl
theorem pk_39_137_4 : PK 39 137 4 = some ((4, .int, false)) := rfl
theorem pk_39_149_4 : PK 39 149 4 = some ((5, .int, false)) := rfl
theorem pk_39_152_4 : PK 39 152 4 = some ((6, .int, false)) := rfl
theorem pk_39_155_4 : PK 39 155 4 = some ((7, .int, false)) := rfl
theorem pk_39_158_4 : PK 39 158 4 = some ((8, .int, false)) := rfl
theorem pk_39_161_4 : PK 39 161 4 = some ((9, .int, false)) := rfl
theorem pk_39_164_4 : PK 39 164 4 = some ((10, .int, false)) := rfl
theorem pk_39_216_2 : PK 39 216 2 = some ((0, .boolean, false)) := rfl
theorem pk_39_220_2 : PK 39 220 2 = some ((1, .int, false)) := rfl
theorem pk_39_227_2 : PK 39 227 2 = some ((2, .int, false)) := rfl
theorem pk_39_281_9 : PK 39 281 9 = some ((0, .int, false)) := rfl
theorem pk_39_336_1 : PK 39 336 1 = some ((2, .int, false)) := rfl
theorem pk_39_342_1 : PK 39 342 1 = some ((3, .int, false)) := rfl
theorem pk_39_345_1 : PK 39 345 1 = some ((4, .int, false)) := rfl
theorem pk_39_346_1 : PK 39 346 1 = some ((5, .int, false)) := rfl
theorem pk_39_348_1 : PK 39 348 1 = some ((6, .int, false)) := rfl
theorem pk_39_351_1 : PK 39 351 1 = some ((7, .int, false)) := rfl
theorem pk_39_354_1 : PK 39 354 1 = some ((8, .int, false)) := rfl
theorem pk_39_357_1 : PK 39 357 1 = some ((9, .int, false)) := rfl
theorem pk_39_406_0 : PK 39 406 0 = some ((7, (.object "TheatreSaga$Theatre"), false)) := rfl
theorem pk_48_3_9 : PK 48 3 9 = some ((4, (.object "TheatreSaga"), true)) := rfl
theorem pk_48_9_9 : PK 48 9 9 = some ((1, .int, true)) := rfl
theorem pk_48_13_9 : PK 48 13 9 = some ((2, .int, true)) := rfl
theorem pk_48_16_9 : PK 48 16 9 = some ((3, .int, true)) := rfl
theorem pk_48_25_9 : PK 48 25 9 = some ((0, .int, false)) := rfl
theorem pk_48_28_0 : PK 48 28 0 = some ((0, (.object "TheatreSaga$Theatre"), false)) := rfl
theorem pk_48_46_2 : PK 48 46 2 = some ((0, .boolean, false)) := rfl
theorem pk_48_54_2 : PK 48 54 2 = some ((1, .int, false)) := rfl
theorem pk_44_9_5 : PK 44 9 5 = some ((0, (.object "java/lang/String"), true)) := rfl
theorem pk_44_15_5 : PK 44 15 5 = some ((1, (.array .int), true)) := rfl
theorem pk_50_7_11 : PK 50 7 11 = some ((6, .int, true)) := rfl
theorem pk_49_1_10 : PK 49 1 10 = some ((1, (.object "TheatreSaga"), true)) := rfl
theorem pk_49_13_10 : PK 49 13 10 = some ((0, .int, false)) := rfl
theorem pk_45_7_6 : PK 45 7 6 = some ((6, .int, true)) := rfl
theorem pk_45_13_6 : PK 45 13 6 = some ((7, .int, true)) := rfl
theorem pk_46_9_7 : PK 46 9 7 = some ((0, .int, true)) := rfl
theorem pk_46_15_7 : PK 46 15 7 = some ((1, .int, true)) := rfl
theorem pk_46_18_7 : PK 46 18 7 = some ((2, .int, true)) := rfl
theorem pk_46_21_7 : PK 46 21 7 = some ((3, .int, true)) := rfl
theorem pk_40_12_1 : PK 40 12 1 = some ((0, (.object "java/util/List"), true)) := rfl
theorem pk_40_18_1 : PK 40 18 1 = some ((1, (.object "java/util/List"), true)) := rfl
theorem pk_40_21_1 : PK 40 21 1 = some ((3, .int, false)) := rfl
theorem pk_40_56_1 : PK 40 56 1 = some ((2, .int, false)) := rfl
theorem pk_40_59_1 : PK 40 59 1 = some ((4, .int, false)) := rfl
theorem pk_40_62_1 : PK 40 62 1 = some ((5, .int, false)) := rfl
theorem pk_40_65_1 : PK 40 65 1 = some ((6, .int, false)) := rfl
theorem pk_40_68_1 : PK 40 68 1 = some ((7, .int, false)) := rfl
theorem pk_40_71_1 : PK 40 71 1 = some ((8, .int, false)) := rfl
theorem pk_40_74_1 : PK 40 74 1 = some ((9, .int, false)) := rfl
theorem pk_40_108_2 : PK 40 108 2 = some ((1, .int, false)) := rfl
theorem pk_40_143_4 : PK 40 143 4 = some ((4, .int, false)) := rfl
theorem pk_40_152_2 : PK 40 152 2 = some ((0, .boolean, false)) := rfl
theorem pk_40_170_4 : PK 40 170 4 = some ((5, .int, false)) := rfl
theorem pk_43_3_4 : PK 43 3 4 = some ((11, (.object "TheatreSaga$Theatre"), true)) := rfl
theorem pk_43_18_4 : PK 43 18 4 = some ((2, (.object "java/util/List"), true)) := rfl
theorem pk_43_22_4 : PK 43 22 4 = some ((3, (.array .int), true)) := rfl
theorem pk_43_26_4 : PK 43 26 4 = some ((0, .int, true)) := rfl
theorem pk_43_30_4 : PK 43 30 4 = some ((1, .int, true)) := rfl
theorem pk_43_48_4 : PK 43 48 4 = some ((4, .int, false)) := rfl
theorem pk_43_51_4 : PK 43 51 4 = some ((5, .int, false)) := rfl
theorem pk_43_54_4 : PK 43 54 4 = some ((6, .int, false)) := rfl
theorem pk_43_57_4 : PK 43 57 4 = some ((7, .int, false)) := rfl
theorem pk_43_60_4 : PK 43 60 4 = some ((8, .int, false)) := rfl
theorem pk_43_63_4 : PK 43 63 4 = some ((9, .int, false)) := rfl
theorem pk_43_66_4 : PK 43 66 4 = some ((10, .int, false)) := rfl
theorem pk_43_150_2 : PK 43 150 2 = some ((0, .boolean, false)) := rfl
theorem pk_43_158_1 : PK 43 158 1 = some ((3, .int, false)) := rfl
theorem pk_43_161_1 : PK 43 161 1 = some ((4, .int, false)) := rfl
theorem pk_43_164_2 : PK 43 164 2 = some ((2, .int, false)) := rfl
theorem pk_43_172_1 : PK 43 172 1 = some ((6, .int, false)) := rfl
theorem pk_43_178_1 : PK 43 178 1 = some ((5, .int, false)) := rfl
theorem pk_43_184_1 : PK 43 184 1 = some ((8, .int, false)) := rfl
theorem pk_43_187_1 : PK 43 187 1 = some ((9, .int, false)) := rfl
theorem pk_41_9_2 : PK 41 9 2 = some ((3, (.array .int), true)) := rfl
theorem pk_41_15_2 : PK 41 15 2 = some ((1, .int, false)) := rfl
theorem pk_41_20_2 : PK 41 20 2 = some ((0, .boolean, false)) := rfl
theorem pk_41_24_2 : PK 41 24 2 = some ((2, .int, false)) := rfl
theorem pk_47_20_8 : PK 47 20 8 = some ((0, (.object "java/util/List"), true)) := rfl
theorem pk_47_24_8 : PK 47 24 8 = some ((2, .int, true)) := rfl
theorem pk_47_28_8 : PK 47 28 8 = some ((1, .int, true)) := rfl
theorem pk_47_31_8 : PK 47 31 8 = some ((3, .int, false)) := rfl
theorem pk_42_9_3 : PK 42 9 3 = some ((0, (.array .int), true)) := rfl
theorem pk_42_13_3 : PK 42 13 3 = some ((1, (.array .int), true)) := rfl
theorem pk_42_16_3 : PK 42 16 3 = some ((2, (.array .int), true)) := rfl
theorem pk_42_19_3 : PK 42 19 3 = some ((3, (.array .int), true)) := rfl
theorem pk_42_22_3 : PK 42 22 3 = some ((5, (.array .int), true)) := rfl
theorem pk_42_25_3 : PK 42 25 3 = some ((7, (.array .char), true)) := rfl
theorem pk_42_29_3 : PK 42 29 3 = some ((9, (.array .char), true)) := rfl
theorem pk_42_34_3 : PK 42 34 3 = some ((12, (.object "java/lang/String"), false)) := rfl
theorem pk_42_38_3 : PK 42 38 3 = some ((13, (.array .int), true)) := rfl
theorem pk_42_41_3 : PK 42 41 3 = some ((14, .int, false)) := rfl
theorem pk_42_45_3 : PK 42 45 3 = some ((18, .int, false)) := rfl
theorem pk_42_48_3 : PK 42 48 3 = some ((4, .int, false)) := rfl
theorem pk_42_51_3 : PK 42 51 3 = some ((17, .int, false)) := rfl
theorem pk_42_54_3 : PK 42 54 3 = some ((15, .int, false)) := rfl
theorem pk_42_57_3 : PK 42 57 3 = some ((16, .int, false)) := rfl
theorem pk_42_182_3 : PK 42 182 3 = some ((8, .int, false)) := rfl
theorem pk_42_198_3 : PK 42 198 3 = some ((10, .int, false)) := rfl
theorem pk_42_201_3 : PK 42 201 3 = some ((11, .int, false)) := rfl
theorem pk_42_269_3 : PK 42 269 3 = some ((6, .boolean, false)) := rfl
theorem pk_2_15_13 : PK 2 15 13 = some ((0, (.array .byte), false)) := rfl
theorem pk_2_22_13 : PK 2 22 13 = some ((1, .byte, false)) := rfl
theorem pk_2_73_13 : PK 2 73 13 = some ((2, .boolean, false)) := rfl
theorem pk_2_79_13 : PK 2 79 13 = some ((3, .int, false)) := rfl
theorem pk_20_205_20 : PK 20 205 20 = some ((0, .int, true)) := rfl
theorem pk_4_9_14 : PK 4 9 14 = some ((0, (.array .byte), true)) := rfl
theorem pk_4_15_14 : PK 4 15 14 = some ((1, .byte, true)) := rfl
theorem pk_4_19_14 : PK 4 19 14 = some ((2, .int, false)) := rfl
theorem pk_4_23_14 : PK 4 23 14 = some ((3, .boolean, false)) := rfl
theorem pk_4_1048_13 : PK 4 1048 13 = some ((2, .boolean, false)) := rfl
theorem pk_13_7_6 : PK 13 7 6 = some ((0, (.object "java/lang/Throwable"), false)) := rfl
theorem pk_13_7_11 : PK 13 7 11 = some ((0, (.object "java/lang/Throwable"), false)) := rfl
theorem pk_13_17_6 : PK 13 17 6 = some ((1, (.array (.object "java/lang/StackTraceElement")), false)) := rfl
theorem pk_13_17_11 : PK 13 17 11 = some ((1, (.array (.object "java/lang/StackTraceElement")), false)) := rfl
theorem pk_13_24_6 : PK 13 24 6 = some ((2, (.object "java/util/List"), false)) := rfl
theorem pk_13_24_11 : PK 13 24 11 = some ((2, (.object "java/util/List"), false)) := rfl
theorem pk_13_31_6 : PK 13 31 6 = some ((3, (.object "java/lang/String"), false)) := rfl
theorem pk_13_31_11 : PK 13 31 11 = some ((3, (.object "java/lang/String"), false)) := rfl
theorem pk_13_198_6 : PK 13 198 6 = some ((4, (.object "java/lang/Object"), false)) := rfl
theorem pk_13_198_11 : PK 13 198 11 = some ((4, (.object "java/lang/Object"), false)) := rfl
theorem pk_6_7_15 : PK 6 7 15 = some ((0, .int, false)) := rfl
theorem pk_6_7_17 : PK 6 7 17 = some ((0, .int, false)) := rfl
theorem pk_22_20_15 : PK 22 20 15 = some ((0, .int, false)) := rfl
theorem pk_22_20_17 : PK 22 20 17 = some ((0, .int, false)) := rfl
theorem pk_1_3_12 : PK 1 3 12 = some ((0, (.array (.object "java/lang/Object")), false)) := rfl
theorem pk_1_20_12 : PK 1 20 12 = some ((2, .int, false)) := rfl
theorem pk_1_24_12 : PK 1 24 12 = some ((1, .int, false)) := rfl
theorem pk_7_9_15 : PK 7 9 15 = some ((1, (.array (.object "java/lang/Object")), false)) := rfl
theorem pk_7_48_15 : PK 7 48 15 = some ((2, .int, false)) := rfl
theorem pk_7_63_15 : PK 7 63 15 = some ((0, .int, false)) := rfl
theorem pk_7_63_17 : PK 7 63 17 = some ((0, .int, false)) := rfl
theorem pk_12_1_16 : PK 12 1 16 = some ((3, (.object "java/util/ArrayList"), true)) := rfl
theorem pk_12_13_16 : PK 12 13 16 = some ((1, .int, false)) := rfl
theorem pk_12_17_15 : PK 12 17 15 = some ((0, .int, false)) := rfl
theorem pk_12_17_17 : PK 12 17 17 = some ((0, .int, false)) := rfl
theorem pk_12_22_16 : PK 12 22 16 = some ((2, .int, false)) := rfl
theorem pk_12_25_16 : PK 12 25 16 = some ((0, .int, false)) := rfl
theorem pk_12_28_15 : PK 12 28 15 = some ((2, .int, false)) := rfl
theorem pk_12_37_15 : PK 12 37 15 = some ((1, (.array (.object "java/lang/Object")), false)) := rfl
theorem pk_23_13_16 : PK 23 13 16 = some ((0, .int, false)) := rfl
theorem pk_32_7_17 : PK 32 7 17 = some ((1, .int, false)) := rfl
theorem pk_32_18_17 : PK 32 18 17 = some ((2, (.object "java/util/LinkedList$Node"), false)) := rfl
theorem pk_32_27_17 : PK 32 27 17 = some ((3, (.object "java/util/LinkedList$Node"), false)) := rfl
theorem pk_32_30_18 : PK 32 30 18 = some ((2, (.object "java/util/LinkedList$Node"), false)) := rfl
theorem pk_32_33_15 : PK 32 33 15 = some ((0, .int, false)) := rfl
theorem pk_32_33_17 : PK 32 33 17 = some ((0, .int, false)) := rfl
theorem pk_32_36_18 : PK 32 36 18 = some ((1, (.object "java/util/LinkedList$Node"), false)) := rfl
theorem pk_32_39_18 : PK 32 39 18 = some ((0, (.object "java/lang/Object"), false)) := rfl
theorem pk_24_1_19 : PK 24 1 19 = some ((4, (.object "java/util/LinkedList"), true)) := rfl
theorem pk_24_13_15 : PK 24 13 15 = some ((0, .int, false)) := rfl
theorem pk_24_13_17 : PK 24 13 17 = some ((0, .int, false)) := rfl
theorem pk_24_19_19 : PK 24 19 19 = some ((3, .int, false)) := rfl
theorem pk_24_22_17 : PK 24 22 17 = some ((1, .int, false)) := rfl
theorem pk_24_29_19 : PK 24 29 19 = some ((1, (.object "java/util/LinkedList$Node"), false)) := rfl
theorem pk_24_33_19 : PK 24 33 19 = some ((2, .int, false)) := rfl
theorem pk_24_46_19 : PK 24 46 19 = some ((0, (.object "java/util/LinkedList$Node"), false)) := rfl
theorem pk_24_49_18 : PK 24 49 18 = some ((1, (.object "java/util/LinkedList$Node"), false)) := rfl
theorem pk_24_52_18 : PK 24 52 18 = some ((0, (.object "java/lang/Object"), false)) := rfl
theorem pk_11_7_18 : PK 11 7 18 = some ((0, (.object "java/lang/Object"), false)) := rfl
theorem pk_11_13_18 : PK 11 13 18 = some ((1, (.object "java/util/LinkedList$Node"), false)) := rfl
theorem pk_11_17_18 : PK 11 17 18 = some ((2, (.object "java/util/LinkedList$Node"), false)) := rfl
theorem newX1 : ∀ k, k < 8 → ([.null, .null, .null, .null, .int 0, .int 0, .int 0, .null] : List Value)[k]? = some (defaultValue (tyX1 k)) := by decide +kernel
theorem newX2 : ∀ k, k < 10 → ([.null, .null, .int 0, .int 0, .int 0, .int 0, .int 0, .int 0, .int 0, .int 0] : List Value)[k]? = some (defaultValue (tyX2 k)) := by decide +kernel
theorem newX3 : ∀ k, k < 4 → ([.int 0, .int 0, .int 0, .null] : List Value)[k]? = some (defaultValue (tyX3 k)) := by decide +kernel
theorem newX4 : ∀ k, k < 19 → ([.null, .null, .null, .null, .int 0, .null, .int 0, .null, .int 0, .null, .int 0, .int 0, .null, .null, .int 0, .int 0, .int 0, .int 0, .int 0] : List Value)[k]? = some (defaultValue (tyX4 k)) := by decide +kernel
theorem newX5 : ∀ k, k < 12 → ([.int 0, .int 0, .null, .null, .int 0, .int 0, .int 0, .int 0, .int 0, .int 0, .int 0, .null] : List Value)[k]? = some (defaultValue (tyX5 k)) := by decide +kernel
theorem newX6 : ∀ k, k < 2 → ([.null, .null] : List Value)[k]? = some (defaultValue (tyX6 k)) := by decide +kernel
theorem newX7 : ∀ k, k < 8 → ([.null, .null, .null, .null, .null, .int 0, .int 0, .int 0] : List Value)[k]? = some (defaultValue (tyX7 k)) := by decide +kernel
theorem newX8 : ∀ k, k < 4 → ([.int 0, .int 0, .int 0, .int 0] : List Value)[k]? = some (defaultValue (tyX8 k)) := by decide +kernel
theorem newX9 : ∀ k, k < 4 → ([.null, .int 0, .int 0, .int 0] : List Value)[k]? = some (defaultValue (tyX9 k)) := by decide +kernel
theorem newX10 : ∀ k, k < 5 → ([.int 0, .int 0, .int 0, .int 0, .null] : List Value)[k]? = some (defaultValue (tyX10 k)) := by decide +kernel
theorem newX11 : ∀ k, k < 2 → ([.int 0, .null] : List Value)[k]? = some (defaultValue (tyX11 k)) := by decide +kernel
theorem newX12 : ∀ k, k < 7 → ([.null, .null, .null, .null, .null, .int 0, .int 0] : List Value)[k]? = some (defaultValue (tyX12 k)) := by decide +kernel
theorem newJ1 : ∀ k, k < 3 → ([.null, .int 0, .int 0] : List Value)[k]? = some (defaultValue (tyJ1 k)) := by decide +kernel
theorem newJ3 : ∀ k, k < 4 → ([.null, .int 0, .int 0, .int 0] : List Value)[k]? = some (defaultValue (tyJ3 k)) := by decide +kernel
theorem newJ4 : ∀ k, k < 4 → ([.null, .int 0, .int 0, .int 0] : List Value)[k]? = some (defaultValue (tyJ4 k)) := by decide +kernel
theorem newJ7 : ∀ k, k < 3 → ([.int 0, .null, .int 0] : List Value)[k]? = some (defaultValue (tyJ7 k)) := by decide +kernel
theorem newJ12 : ∀ k, k < 4 → ([.int 0, .int 0, .int 0, .null] : List Value)[k]? = some (defaultValue (tyJ12 k)) := by decide +kernel
theorem newJ32 : ∀ k, k < 4 → ([.int 0, .int 0, .null, .null] : List Value)[k]? = some (defaultValue (tyJ32 k)) := by decide +kernel
theorem newJ11 : ∀ k, k < 3 → ([.null, .null, .null] : List Value)[k]? = some (defaultValue (tyJ11 k)) := by decide +kernel
theorem newJ24 : ∀ k, k < 5 → ([.null, .null, .int 0, .int 0, .null] : List Value)[k]? = some (defaultValue (tyJ24 k)) := by decide +kernel
theorem newJ20 : ∀ k, k < 1 → ([.int 0] : List Value)[k]? = some (defaultValue (tyJ20 k)) := by decide +kernel
def NK39_0 : List (Nat × Nat × (Nat × List Value)) := [(16, 0, (6, [.null, .null, .null, .null, .null, .int 0, .int 0, .int 0])), (26, 0, (12, [.null, .int 0, .int 0])), (33, 0, (13, [.null, .int 0, .int 0, .int 0])), (40, 0, (1, [.null, .null, .int 0, .int 0, .int 0, .int 0, .int 0, .int 0, .int 0, .int 0])), (87, 0, (5, [.null, .null])), (112, 0, (4, [.int 0, .int 0, .null, .null, .int 0, .int 0, .int 0, .int 0, .int 0, .int 0, .int 0, .null])), (167, 0, (7, [.int 0, .int 0, .int 0, .int 0])), (205, 0, (8, [.null, .int 0, .int 0, .int 0])), (214, 0, (2, [.int 0, .int 0, .int 0, .null])), (272, 0, (9, [.int 0, .int 0, .int 0, .int 0, .null])), (284, 0, (17, [.int 0, .int 0, .null, .null])), (289, 0, (20, [.int 0])), (378, 0, (10, [.int 0, .null])), (390, 0, (11, [.null, .null, .null, .null, .null, .int 0, .int 0]))]
theorem NK39_0_ok (X : XT) : ∀ r ∈ NK39_0, NS (mkG X) (cn 39) r.1 r.2.2.1 r.2.2.2 := (List.forall_mem_cons.mpr ⟨⟨"TheatreSaga$Refusal", TX7, 8, tyX7, rfl, in_X7, tyX7_ok, q1233, q1350, q110, rfl, newX7⟩, (List.forall_mem_cons.mpr ⟨⟨"java/util/ArrayDeque", TJ1, 3, tyJ1, rfl, in_J1, tyJ1_ok, q134, q135, q77, rfl, newJ1⟩, (List.forall_mem_cons.mpr ⟨⟨"java/lang/StringBuilder", TJ3, 4, tyJ3, rfl, in_J3, tyJ3_ok, q155, q156, q79, rfl, newJ3⟩, (List.forall_mem_cons.mpr ⟨⟨"TheatreSaga$Theatre", TX2, 10, tyX2, rfl, in_X2, tyX2_ok, q188, q189, q82, rfl, newX2⟩, (List.forall_mem_cons.mpr ⟨⟨"TheatreSaga$Deed", TX6, 2, tyX6, rfl, in_X6, tyX6_ok, q1234, q1235, q109, rfl, newX6⟩, (List.forall_mem_cons.mpr ⟨⟨"TheatreSaga$Theatre$Tour", TX5, 12, tyX5, rfl, in_X5, tyX5_ok, q1743, q1096, q108, rfl, newX5⟩, (List.forall_mem_cons.mpr ⟨⟨"TheatreSaga$Step", TX8, 4, tyX8, rfl, in_X8, tyX8_ok, q1753, q1383, q112, rfl, newX8⟩, (List.forall_mem_cons.mpr ⟨⟨"TheatreSaga$Walk", TX9, 4, tyX9, rfl, in_X9, tyX9_ok, q1853, q1450, q113, rfl, newX9⟩, (List.forall_mem_cons.mpr ⟨⟨"TheatreSaga$Town", TX3, 4, tyX3, rfl, in_X3, tyX3_ok, q1782, q225, q85, rfl, newX3⟩, (List.forall_mem_cons.mpr ⟨⟨"TheatreSaga$1Choice", TX10, 5, tyX10, rfl, in_X10, tyX10_ok, q1863, q1864, q117, rfl, newX10⟩, (List.forall_mem_cons.mpr ⟨⟨"java/util/LinkedList", TJ32, 4, tyJ32, rfl, in_J32, tyJ32_ok, q1901, q829, q119, rfl, newJ32⟩, (List.forall_mem_cons.mpr ⟨⟨"java/lang/Integer", TJ20, 1, tyJ20, rfl, in_J20, tyJ20_ok, q1923, q1940, q100, rfl, newJ20⟩, (List.forall_mem_cons.mpr ⟨⟨"TheatreSaga$Parser", TX11, 2, tyX11, rfl, in_X11, tyX11_ok, q2131, q2132, q122, rfl, newX11⟩, (List.forall_mem_cons.mpr ⟨⟨"TheatreSaga$FaultException", TX12, 7, tyX12, rfl, in_X12, tyX12_ok, q2130, q2211, q123, rfl, newX12⟩, (fun _ h => nomatch h)⟩)⟩)⟩)⟩)⟩)⟩)⟩)⟩)⟩)⟩)⟩)⟩)⟩)⟩)
def NK39 : List (Nat × Nat × (Nat × List Value)) := NK39_0
theorem NK39_ok (X : XT) : ∀ r ∈ NK39, NS (mkG X) (cn 39) r.1 r.2.2.1 r.2.2.2 := NK39_0_ok X
def NK48_0 : List (Nat × Nat × (Nat × List Value)) := [(44, 0, (2, [.int 0, .int 0, .int 0, .null]))]
theorem NK48_0_ok (X : XT) : ∀ r ∈ NK48_0, NS (mkG X) (cn 48) r.1 r.2.2.1 r.2.2.2 := (List.forall_mem_cons.mpr ⟨⟨"TheatreSaga$Town", TX3, 4, tyX3, rfl, in_X3, tyX3_ok, q1892, q225, q85, rfl, newX3⟩, (fun _ h => nomatch h)⟩)
def NK48 : List (Nat × Nat × (Nat × List Value)) := NK48_0
theorem NK48_ok (X : XT) : ∀ r ∈ NK48, NS (mkG X) (cn 48) r.1 r.2.2.1 r.2.2.2 := NK48_0_ok X
def NK44_0 : List (Nat × Nat × (Nat × List Value)) := [(19, 0, (7, [.int 0, .int 0, .int 0, .int 0])), (77, 0, (4, [.int 0, .int 0, .null, .null, .int 0, .int 0, .int 0, .int 0, .int 0, .int 0, .int 0, .null]))]
theorem NK44_0_ok (X : XT) : ∀ r ∈ NK44_0, NS (mkG X) (cn 44) r.1 r.2.2.1 r.2.2.2 := (List.forall_mem_cons.mpr ⟨⟨"TheatreSaga$Step", TX8, 4, tyX8, rfl, in_X8, tyX8_ok, q1382, q1383, q112, rfl, newX8⟩, (List.forall_mem_cons.mpr ⟨⟨"TheatreSaga$Theatre$Tour", TX5, 12, tyX5, rfl, in_X5, tyX5_ok, q1523, q1096, q108, rfl, newX5⟩, (fun _ h => nomatch h)⟩)⟩)
def NK44 : List (Nat × Nat × (Nat × List Value)) := NK44_0
theorem NK44_ok (X : XT) : ∀ r ∈ NK44, NS (mkG X) (cn 44) r.1 r.2.2.1 r.2.2.2 := NK44_0_ok X
def NK49_0 : List (Nat × Nat × (Nat × List Value)) := [(24, 0, (13, [.null, .int 0, .int 0, .int 0])), (41, 0, (11, [.null, .null, .null, .null, .null, .int 0, .int 0])), (98, 0, (5, [.null, .null])), (103, 0, (17, [.int 0, .int 0, .null, .null]))]
theorem NK49_0_ok (X : XT) : ∀ r ∈ NK49_0, NS (mkG X) (cn 49) r.1 r.2.2.1 r.2.2.2 := (List.forall_mem_cons.mpr ⟨⟨"java/lang/StringBuilder", TJ3, 4, tyJ3, rfl, in_J3, tyJ3_ok, q2160, q156, q79, rfl, newJ3⟩, (List.forall_mem_cons.mpr ⟨⟨"TheatreSaga$FaultException", TX12, 7, tyX12, rfl, in_X12, tyX12_ok, q2210, q2211, q123, rfl, newX12⟩, (List.forall_mem_cons.mpr ⟨⟨"TheatreSaga$Deed", TX6, 2, tyX6, rfl, in_X6, tyX6_ok, q2271, q1235, q109, rfl, newX6⟩, (List.forall_mem_cons.mpr ⟨⟨"java/util/LinkedList", TJ32, 4, tyJ32, rfl, in_J32, tyJ32_ok, q2148, q829, q119, rfl, newJ32⟩, (fun _ h => nomatch h)⟩)⟩)⟩)⟩)
def NK49 : List (Nat × Nat × (Nat × List Value)) := NK49_0
theorem NK49_ok (X : XT) : ∀ r ∈ NK49, NS (mkG X) (cn 49) r.1 r.2.2.1 r.2.2.2 := NK49_0_ok X
def NK46_0 : List (Nat × Nat × (Nat × List Value)) := [(24, 0, (13, [.null, .int 0, .int 0, .int 0]))]
theorem NK46_0_ok (X : XT) : ∀ r ∈ NK46_0, NS (mkG X) (cn 46) r.1 r.2.2.1 r.2.2.2 := (List.forall_mem_cons.mpr ⟨⟨"java/lang/StringBuilder", TJ3, 4, tyJ3, rfl, in_J3, tyJ3_ok, q2004, q156, q79, rfl, newJ3⟩, (fun _ h => nomatch h)⟩)
def NK46 : List (Nat × Nat × (Nat × List Value)) := NK46_0
theorem NK46_ok (X : XT) : ∀ r ∈ NK46, NS (mkG X) (cn 46) r.1 r.2.2.1 r.2.2.2 := NK46_0_ok X
def NK40_0 : List (Nat × Nat × (Nat × List Value)) := [(9, 0, (15, [.int 0, .null, .int 0])), (25, 0, (2, [.int 0, .int 0, .int 0, .null])), (51, 0, (4, [.int 0, .int 0, .null, .null, .int 0, .int 0, .int 0, .int 0, .int 0, .int 0, .int 0, .null]))]
theorem NK40_0_ok (X : XT) : ∀ r ∈ NK40_0, NS (mkG X) (cn 40) r.1 r.2.2.1 r.2.2.2 := (List.forall_mem_cons.mpr ⟨⟨"java/util/ArrayList", TJ7, 3, tyJ7, rfl, in_J7, tyJ7_ok, q194, q195, q84, rfl, newJ7⟩, (List.forall_mem_cons.mpr ⟨⟨"TheatreSaga$Town", TX3, 4, tyX3, rfl, in_X3, tyX3_ok, q224, q225, q85, rfl, newX3⟩, (List.forall_mem_cons.mpr ⟨⟨"TheatreSaga$Theatre$Tour", TX5, 12, tyX5, rfl, in_X5, tyX5_ok, q1095, q1096, q108, rfl, newX5⟩, (fun _ h => nomatch h)⟩)⟩)⟩)
def NK40 : List (Nat × Nat × (Nat × List Value)) := NK40_0
theorem NK40_ok (X : XT) : ∀ r ∈ NK40, NS (mkG X) (cn 40) r.1 r.2.2.1 r.2.2.2 := NK40_0_ok X
def NK43_0 : List (Nat × Nat × (Nat × List Value)) := [(15, 0, (15, [.int 0, .null, .int 0])), (77, 0, (8, [.null, .int 0, .int 0, .int 0])), (96, 0, (7, [.int 0, .int 0, .int 0, .int 0])), (135, 0, (2, [.int 0, .int 0, .int 0, .null]))]
theorem NK43_0_ok (X : XT) : ∀ r ∈ NK43_0, NS (mkG X) (cn 43) r.1 r.2.2.1 r.2.2.2 := (List.forall_mem_cons.mpr ⟨⟨"java/util/ArrayList", TJ7, 3, tyJ7, rfl, in_J7, tyJ7_ok, q1104, q195, q84, rfl, newJ7⟩, (List.forall_mem_cons.mpr ⟨⟨"TheatreSaga$Walk", TX9, 4, tyX9, rfl, in_X9, tyX9_ok, q1449, q1450, q113, rfl, newX9⟩, (List.forall_mem_cons.mpr ⟨⟨"TheatreSaga$Step", TX8, 4, tyX8, rfl, in_X8, tyX8_ok, q1481, q1383, q112, rfl, newX8⟩, (List.forall_mem_cons.mpr ⟨⟨"TheatreSaga$Town", TX3, 4, tyX3, rfl, in_X3, tyX3_ok, q1572, q225, q85, rfl, newX3⟩, (fun _ h => nomatch h)⟩)⟩)⟩)⟩)
def NK43 : List (Nat × Nat × (Nat × List Value)) := NK43_0
theorem NK43_ok (X : XT) : ∀ r ∈ NK43, NS (mkG X) (cn 43) r.1 r.2.2.1 r.2.2.2 := NK43_0_ok X
def NK47_0 : List (Nat × Nat × (Nat × List Value)) := [(10, 0, (8, [.null, .int 0, .int 0, .int 0])), (46, 0, (7, [.int 0, .int 0, .int 0, .int 0]))]
theorem NK47_0_ok (X : XT) : ∀ r ∈ NK47_0, NS (mkG X) (cn 47) r.1 r.2.2.1 r.2.2.2 := (List.forall_mem_cons.mpr ⟨⟨"TheatreSaga$Walk", TX9, 4, tyX9, rfl, in_X9, tyX9_ok, q1569, q1450, q113, rfl, newX9⟩, (List.forall_mem_cons.mpr ⟨⟨"TheatreSaga$Step", TX8, 4, tyX8, rfl, in_X8, tyX8_ok, q986, q1383, q112, rfl, newX8⟩, (fun _ h => nomatch h)⟩)⟩)
def NK47 : List (Nat × Nat × (Nat × List Value)) := NK47_0
theorem NK47_ok (X : XT) : ∀ r ∈ NK47, NS (mkG X) (cn 47) r.1 r.2.2.1 r.2.2.2 := NK47_0_ok X
def NK38_0 : List (Nat × Nat × (Nat × List Value)) := [(8, 0, (0, [.null, .null, .null, .null, .int 0, .int 0, .int 0, .null])), (117, 0, (3, [.null, .null, .null, .null, .int 0, .null, .int 0, .null, .int 0, .null, .int 0, .int 0, .null, .null, .int 0, .int 0, .int 0, .int 0, .int 0]))]
theorem NK38_0_ok (X : XT) : ∀ r ∈ NK38_0, NS (mkG X) (cn 38) r.1 r.2.2.1 r.2.2.2 := (List.forall_mem_cons.mpr ⟨⟨"TheatreSaga", TX1, 8, tyX1, rfl, in_X1, tyX1_ok, q126, q127, q75, rfl, newX1⟩, (List.forall_mem_cons.mpr ⟨⟨"TheatreSagaModel", TX4, 19, tyX4, rfl, in_X4, tyX4_ok, q2384, q2385, q91, rfl, newX4⟩, (fun _ h => nomatch h)⟩)⟩)
def NK38 : List (Nat × Nat × (Nat × List Value)) := NK38_0
theorem NK38_ok (X : XT) : ∀ r ∈ NK38, NS (mkG X) (cn 38) r.1 r.2.2.1 r.2.2.2 := NK38_0_ok X
def NK30_0 : List (Nat × Nat × (Nat × List Value)) := [(10, 0, (13, [.null, .int 0, .int 0, .int 0]))]
theorem NK30_0_ok (X : XT) : ∀ r ∈ NK30_0, NS (mkG X) (cn 30) r.1 r.2.2.1 r.2.2.2 := (List.forall_mem_cons.mpr ⟨⟨"java/lang/StringBuilder", TJ3, 4, tyJ3, rfl, in_J3, tyJ3_ok, q2317, q156, q79, rfl, newJ3⟩, (fun _ h => nomatch h)⟩)
def NK30 : List (Nat × Nat × (Nat × List Value)) := NK30_0
theorem NK30_ok (X : XT) : ∀ r ∈ NK30, NS (mkG X) (cn 30) r.1 r.2.2.1 r.2.2.2 := NK30_0_ok X
def NK20_0 : List (Nat × Nat × (Nat × List Value)) := [(1, 0, (20, [.int 0]))]
theorem NK20_0_ok (X : XT) : ∀ r ∈ NK20_0, NS (mkG X) (cn 20) r.1 r.2.2.1 r.2.2.2 := (List.forall_mem_cons.mpr ⟨⟨"java/lang/Integer", TJ20, 1, tyJ20, rfl, in_J20, tyJ20_ok, q1939, q1940, q100, rfl, newJ20⟩, (fun _ h => nomatch h)⟩)
def NK20 : List (Nat × Nat × (Nat × List Value)) := NK20_0
theorem NK20_ok (X : XT) : ∀ r ∈ NK20, NS (mkG X) (cn 20) r.1 r.2.2.1 r.2.2.2 := NK20_0_ok X
def NK4_0 : List (Nat × Nat × (Nat × List Value)) := [(10, 0, (14, [.null, .int 0, .int 0, .int 0]))]
theorem NK4_0_ok (X : XT) : ∀ r ∈ NK4_0, NS (mkG X) (cn 4) r.1 r.2.2.1 r.2.2.2 := (List.forall_mem_cons.mpr ⟨⟨"java/lang/String", TJ4, 4, tyJ4, rfl, in_J4, tyJ4_ok, q1317, q706, q80, rfl, newJ4⟩, (fun _ h => nomatch h)⟩)
def NK4 : List (Nat × Nat × (Nat × List Value)) := NK4_0
theorem NK4_ok (X : XT) : ∀ r ∈ NK4, NS (mkG X) (cn 4) r.1 r.2.2.1 r.2.2.2 := NK4_0_ok X
def NK3_0 : List (Nat × Nat × (Nat × List Value)) := [(18, 0, (14, [.null, .int 0, .int 0, .int 0]))]
theorem NK3_0_ok (X : XT) : ∀ r ∈ NK3_0, NS (mkG X) (cn 3) r.1 r.2.2.1 r.2.2.2 := (List.forall_mem_cons.mpr ⟨⟨"java/lang/String", TJ4, 4, tyJ4, rfl, in_J4, tyJ4_ok, q705, q706, q80, rfl, newJ4⟩, (fun _ h => nomatch h)⟩)
def NK3 : List (Nat × Nat × (Nat × List Value)) := NK3_0
theorem NK3_ok (X : XT) : ∀ r ∈ NK3, NS (mkG X) (cn 3) r.1 r.2.2.1 r.2.2.2 := NK3_0_ok X
def NK34_0 : List (Nat × Nat × (Nat × List Value)) := [(10, 0, (13, [.null, .int 0, .int 0, .int 0]))]
theorem NK34_0_ok (X : XT) : ∀ r ∈ NK34_0, NS (mkG X) (cn 34) r.1 r.2.2.1 r.2.2.2 := (List.forall_mem_cons.mpr ⟨⟨"java/lang/StringBuilder", TJ3, 4, tyJ3, rfl, in_J3, tyJ3_ok, q2287, q156, q79, rfl, newJ3⟩, (fun _ h => nomatch h)⟩)
def NK34 : List (Nat × Nat × (Nat × List Value)) := NK34_0
theorem NK34_ok (X : XT) : ∀ r ∈ NK34, NS (mkG X) (cn 34) r.1 r.2.2.1 r.2.2.2 := NK34_0_ok X
def NK18_0 : List (Nat × Nat × (Nat × List Value)) := [(1, 0, (14, [.null, .int 0, .int 0, .int 0]))]
theorem NK18_0_ok (X : XT) : ∀ r ∈ NK18_0, NS (mkG X) (cn 18) r.1 r.2.2.1 r.2.2.2 := (List.forall_mem_cons.mpr ⟨⟨"java/lang/String", TJ4, 4, tyJ4, rfl, in_J4, tyJ4_ok, q2247, q706, q80, rfl, newJ4⟩, (fun _ h => nomatch h)⟩)
def NK18 : List (Nat × Nat × (Nat × List Value)) := NK18_0
theorem NK18_ok (X : XT) : ∀ r ∈ NK18, NS (mkG X) (cn 18) r.1 r.2.2.1 r.2.2.2 := NK18_0_ok X
def NK5_0 : List (Nat × Nat × (Nat × List Value)) := [(3, 0, (14, [.null, .int 0, .int 0, .int 0]))]
theorem NK5_0_ok (X : XT) : ∀ r ∈ NK5_0, NS (mkG X) (cn 5) r.1 r.2.2.1 r.2.2.2 := (List.forall_mem_cons.mpr ⟨⟨"java/lang/String", TJ4, 4, tyJ4, rfl, in_J4, tyJ4_ok, q2259, q706, q80, rfl, newJ4⟩, (fun _ h => nomatch h)⟩)
def NK5 : List (Nat × Nat × (Nat × List Value)) := NK5_0
theorem NK5_ok (X : XT) : ∀ r ∈ NK5, NS (mkG X) (cn 5) r.1 r.2.2.1 r.2.2.2 := NK5_0_ok X
def NK13_0 : List (Nat × Nat × (Nat × List Value)) := [(44, 0, (13, [.null, .int 0, .int 0, .int 0]))]
theorem NK13_0_ok (X : XT) : ∀ r ∈ NK13_0, NS (mkG X) (cn 13) r.1 r.2.2.1 r.2.2.2 := (List.forall_mem_cons.mpr ⟨⟨"java/lang/StringBuilder", TJ3, 4, tyJ3, rfl, in_J3, tyJ3_ok, q1058, q156, q79, rfl, newJ3⟩, (fun _ h => nomatch h)⟩)
def NK13 : List (Nat × Nat × (Nat × List Value)) := NK13_0
theorem NK13_ok (X : XT) : ∀ r ∈ NK13, NS (mkG X) (cn 13) r.1 r.2.2.1 r.2.2.2 := NK13_0_ok X
def NK7_0 : List (Nat × Nat × (Nat × List Value)) := [(20, 0, (13, [.null, .int 0, .int 0, .int 0])), (267, 0, (16, [.int 0, .int 0, .int 0, .null]))]
theorem NK7_0_ok (X : XT) : ∀ r ∈ NK7_0, NS (mkG X) (cn 7) r.1 r.2.2.1 r.2.2.2 := (List.forall_mem_cons.mpr ⟨⟨"java/lang/StringBuilder", TJ3, 4, tyJ3, rfl, in_J3, tyJ3_ok, q567, q156, q79, rfl, newJ3⟩, (List.forall_mem_cons.mpr ⟨⟨"java/util/ArrayList$Itr", TJ12, 4, tyJ12, rfl, in_J12, tyJ12_ok, q473, q474, q92, rfl, newJ12⟩, (fun _ h => nomatch h)⟩)⟩)
def NK7 : List (Nat × Nat × (Nat × List Value)) := NK7_0
theorem NK7_ok (X : XT) : ∀ r ∈ NK7, NS (mkG X) (cn 7) r.1 r.2.2.1 r.2.2.2 := NK7_0_ok X
def NK10_0 : List (Nat × Nat × (Nat × List Value)) := [(45, 0, (13, [.null, .int 0, .int 0, .int 0]))]
theorem NK10_0_ok (X : XT) : ∀ r ∈ NK10_0, NS (mkG X) (cn 10) r.1 r.2.2.1 r.2.2.2 := (List.forall_mem_cons.mpr ⟨⟨"java/lang/StringBuilder", TJ3, 4, tyJ3, rfl, in_J3, tyJ3_ok, q746, q156, q79, rfl, newJ3⟩, (fun _ h => nomatch h)⟩)
def NK10 : List (Nat × Nat × (Nat × List Value)) := NK10_0
theorem NK10_ok (X : XT) : ∀ r ∈ NK10, NS (mkG X) (cn 10) r.1 r.2.2.1 r.2.2.2 := NK10_0_ok X
def NK32_0 : List (Nat × Nat × (Nat × List Value)) := [(22, 0, (18, [.null, .null, .null])), (97, 0, (13, [.null, .int 0, .int 0, .int 0])), (150, 0, (19, [.null, .null, .int 0, .int 0, .null]))]
theorem NK32_0_ok (X : XT) : ∀ r ∈ NK32_0, NS (mkG X) (cn 32) r.1 r.2.2.1 r.2.2.2 := (List.forall_mem_cons.mpr ⟨⟨"java/util/LinkedList$Node", TJ11, 3, tyJ11, rfl, in_J11, tyJ11_ok, q347, q348, q90, rfl, newJ11⟩, (List.forall_mem_cons.mpr ⟨⟨"java/lang/StringBuilder", TJ3, 4, tyJ3, rfl, in_J3, tyJ3_ok, q840, q156, q79, rfl, newJ3⟩, (List.forall_mem_cons.mpr ⟨⟨"java/util/LinkedList$ListItr", TJ24, 5, tyJ24, rfl, in_J24, tyJ24_ok, q848, q849, q105, rfl, newJ24⟩, (fun _ h => nomatch h)⟩)⟩)⟩)
def NK32 : List (Nat × Nat × (Nat × List Value)) := NK32_0
theorem NK32_ok (X : XT) : ∀ r ∈ NK32, NS (mkG X) (cn 32) r.1 r.2.2.1 r.2.2.2 := NK32_0_ok X
def NK8_0 : List (Nat × Nat × (Nat × List Value)) := [(89, 0, (13, [.null, .int 0, .int 0, .int 0]))]
theorem NK8_0_ok (X : XT) : ∀ r ∈ NK8_0, NS (mkG X) (cn 8) r.1 r.2.2.1 r.2.2.2 := (List.forall_mem_cons.mpr ⟨⟨"java/lang/StringBuilder", TJ3, 4, tyJ3, rfl, in_J3, tyJ3_ok, q1301, q156, q79, rfl, newJ3⟩, (fun _ h => nomatch h)⟩)
def NK8 : List (Nat × Nat × (Nat × List Value)) := NK8_0
theorem NK8_ok (X : XT) : ∀ r ∈ NK8, NS (mkG X) (cn 8) r.1 r.2.2.1 r.2.2.2 := NK8_0_ok X
def NKT : Nat → List (Nat × Nat × (Nat × List Value))
  | 39 => NK39
  | 48 => NK48
  | 44 => NK44
  | 49 => NK49
  | 46 => NK46
  | 40 => NK40
  | 43 => NK43
  | 47 => NK47
  | 38 => NK38
  | 30 => NK30
  | 20 => NK20
  | 4 => NK4
  | 3 => NK3
  | 34 => NK34
  | 18 => NK18
  | 5 => NK5
  | 13 => NK13
  | 7 => NK7
  | 10 => NK10
  | 32 => NK32
  | 8 => NK8
  | _ => []
def NK (o i c : Nat) : Option ((Nat × List Value)) := lk (NKT o) i c
theorem NK_ok (X : XT) (o : Nat) : ∀ r ∈ NKT o, NS (mkG X) (cn o) r.1 r.2.2.1 r.2.2.2 := by
  unfold NKT
  split
  · exact NK39_ok X
  · exact NK48_ok X
  · exact NK44_ok X
  · exact NK49_ok X
  · exact NK46_ok X
  · exact NK40_ok X
  · exact NK43_ok X
  · exact NK47_ok X
  · exact NK38_ok X
  · exact NK30_ok X
  · exact NK20_ok X
  · exact NK4_ok X
  · exact NK3_ok X
  · exact NK34_ok X
  · exact NK18_ok X
  · exact NK5_ok X
  · exact NK13_ok X
  · exact NK7_ok X
  · exact NK10_ok X
  · exact NK32_ok X
  · exact NK8_ok X
  · exact fun _ h => nomatch h
theorem nk_39_16_0 : NK 39 16 0 = some ((6, [.null, .null, .null, .null, .null, .int 0, .int 0, .int 0])) := rfl
theorem nk_39_26_0 : NK 39 26 0 = some ((12, [.null, .int 0, .int 0])) := rfl
theorem nk_39_33_0 : NK 39 33 0 = some ((13, [.null, .int 0, .int 0, .int 0])) := rfl
theorem nk_39_40_0 : NK 39 40 0 = some ((1, [.null, .null, .int 0, .int 0, .int 0, .int 0, .int 0, .int 0, .int 0, .int 0])) := rfl
theorem nk_39_87_0 : NK 39 87 0 = some ((5, [.null, .null])) := rfl
theorem nk_39_112_0 : NK 39 112 0 = some ((4, [.int 0, .int 0, .null, .null, .int 0, .int 0, .int 0, .int 0, .int 0, .int 0, .int 0, .null])) := rfl
theorem nk_39_167_0 : NK 39 167 0 = some ((7, [.int 0, .int 0, .int 0, .int 0])) := rfl
theorem nk_39_205_0 : NK 39 205 0 = some ((8, [.null, .int 0, .int 0, .int 0])) := rfl
theorem nk_39_214_0 : NK 39 214 0 = some ((2, [.int 0, .int 0, .int 0, .null])) := rfl
theorem nk_39_272_0 : NK 39 272 0 = some ((9, [.int 0, .int 0, .int 0, .int 0, .null])) := rfl
theorem nk_39_284_0 : NK 39 284 0 = some ((17, [.int 0, .int 0, .null, .null])) := rfl
theorem nk_39_289_0 : NK 39 289 0 = some ((20, [.int 0])) := rfl
theorem nk_39_378_0 : NK 39 378 0 = some ((10, [.int 0, .null])) := rfl
theorem nk_39_390_0 : NK 39 390 0 = some ((11, [.null, .null, .null, .null, .null, .int 0, .int 0])) := rfl
theorem nk_48_44_0 : NK 48 44 0 = some ((2, [.int 0, .int 0, .int 0, .null])) := rfl
theorem nk_44_19_0 : NK 44 19 0 = some ((7, [.int 0, .int 0, .int 0, .int 0])) := rfl
theorem nk_44_77_0 : NK 44 77 0 = some ((4, [.int 0, .int 0, .null, .null, .int 0, .int 0, .int 0, .int 0, .int 0, .int 0, .int 0, .null])) := rfl
theorem nk_49_24_0 : NK 49 24 0 = some ((13, [.null, .int 0, .int 0, .int 0])) := rfl
theorem nk_49_41_0 : NK 49 41 0 = some ((11, [.null, .null, .null, .null, .null, .int 0, .int 0])) := rfl
theorem nk_49_98_0 : NK 49 98 0 = some ((5, [.null, .null])) := rfl
theorem nk_49_103_0 : NK 49 103 0 = some ((17, [.int 0, .int 0, .null, .null])) := rfl
theorem nk_46_24_0 : NK 46 24 0 = some ((13, [.null, .int 0, .int 0, .int 0])) := rfl
theorem nk_40_9_0 : NK 40 9 0 = some ((15, [.int 0, .null, .int 0])) := rfl
theorem nk_40_25_0 : NK 40 25 0 = some ((2, [.int 0, .int 0, .int 0, .null])) := rfl
theorem nk_40_51_0 : NK 40 51 0 = some ((4, [.int 0, .int 0, .null, .null, .int 0, .int 0, .int 0, .int 0, .int 0, .int 0, .int 0, .null])) := rfl
theorem nk_43_15_0 : NK 43 15 0 = some ((15, [.int 0, .null, .int 0])) := rfl
theorem nk_43_77_0 : NK 43 77 0 = some ((8, [.null, .int 0, .int 0, .int 0])) := rfl
theorem nk_43_96_0 : NK 43 96 0 = some ((7, [.int 0, .int 0, .int 0, .int 0])) := rfl
theorem nk_43_135_0 : NK 43 135 0 = some ((2, [.int 0, .int 0, .int 0, .null])) := rfl
theorem nk_47_10_0 : NK 47 10 0 = some ((8, [.null, .int 0, .int 0, .int 0])) := rfl
theorem nk_47_46_0 : NK 47 46 0 = some ((7, [.int 0, .int 0, .int 0, .int 0])) := rfl
theorem nk_38_8_0 : NK 38 8 0 = some ((0, [.null, .null, .null, .null, .int 0, .int 0, .int 0, .null])) := rfl
theorem nk_38_117_0 : NK 38 117 0 = some ((3, [.null, .null, .null, .null, .int 0, .null, .int 0, .null, .int 0, .null, .int 0, .int 0, .null, .null, .int 0, .int 0, .int 0, .int 0, .int 0])) := rfl
theorem nk_30_10_0 : NK 30 10 0 = some ((13, [.null, .int 0, .int 0, .int 0])) := rfl
theorem nk_20_1_0 : NK 20 1 0 = some ((20, [.int 0])) := rfl
theorem nk_4_10_0 : NK 4 10 0 = some ((14, [.null, .int 0, .int 0, .int 0])) := rfl
theorem nk_3_18_0 : NK 3 18 0 = some ((14, [.null, .int 0, .int 0, .int 0])) := rfl
theorem nk_34_10_0 : NK 34 10 0 = some ((13, [.null, .int 0, .int 0, .int 0])) := rfl
theorem nk_18_1_0 : NK 18 1 0 = some ((14, [.null, .int 0, .int 0, .int 0])) := rfl
theorem nk_5_3_0 : NK 5 3 0 = some ((14, [.null, .int 0, .int 0, .int 0])) := rfl
theorem nk_13_44_0 : NK 13 44 0 = some ((13, [.null, .int 0, .int 0, .int 0])) := rfl
theorem nk_7_20_0 : NK 7 20 0 = some ((13, [.null, .int 0, .int 0, .int 0])) := rfl
theorem nk_7_267_0 : NK 7 267 0 = some ((16, [.int 0, .int 0, .int 0, .null])) := rfl
theorem nk_10_45_0 : NK 10 45 0 = some ((13, [.null, .int 0, .int 0, .int 0])) := rfl
theorem nk_32_22_0 : NK 32 22 0 = some ((18, [.null, .null, .null])) := rfl
theorem nk_32_97_0 : NK 32 97 0 = some ((13, [.null, .int 0, .int 0, .int 0])) := rfl
theorem nk_32_150_0 : NK 32 150 0 = some ((19, [.null, .null, .int 0, .int 0, .null])) := rfl
theorem nk_8_89_0 : NK 8 89 0 = some ((13, [.null, .int 0, .int 0, .int 0])) := rfl
def SK39_0 : List (Nat × Nat × (MI × Nat)) := [(108, 0, (mX2_at, 2)), (129, 0, (mX1_inRange, 3)), (133, 0, (mX1_require, 1)), (204, 0, (mX9_backward, 2)), (232, 0, (mX1_requireIndex, 1)), (243, 0, (mX1_all, 1)), (250, 0, (mX1_requireElement, 1)), (298, 0, (mJ20_valueOf, 1)), (365, 0, (mX1_sum, 1)), (375, 0, (mX1_requireState, 1)), (398, 0, (mX1_doAll, 2))]
theorem SK39_0_ok (X : XT) : ∀ r ∈ SK39_0, SS (mkG X) (cn 39) r.1 r.2.2.1 r.2.2.2 := (List.forall_mem_cons.mpr ⟨⟨kX2_at, q1409, rfl, Or.inl q1742⟩, (List.forall_mem_cons.mpr ⟨⟨kX1_inRange, q1335, rfl, Or.inl q1744⟩, (List.forall_mem_cons.mpr ⟨⟨kX1_require, q1338, rfl, Or.inl q1745⟩, (List.forall_mem_cons.mpr ⟨⟨kX9_backward, q1567, rfl, Or.inl q1793⟩, (List.forall_mem_cons.mpr ⟨⟨kX1_requireIndex, q1412, rfl, Or.inl q1814⟩, (List.forall_mem_cons.mpr ⟨⟨kX1_all, q1438, rfl, Or.inl q1823⟩, (List.forall_mem_cons.mpr ⟨⟨kX1_requireElement, q930, rfl, Or.inl q1833⟩, (List.forall_mem_cons.mpr ⟨⟨kJ20_valueOf, q1933, rfl, Or.inl q1932⟩, (List.forall_mem_cons.mpr ⟨⟨kX1_sum, q451, rfl, Or.inl q450⟩, (List.forall_mem_cons.mpr ⟨⟨kX1_requireState, q2112, rfl, Or.inl q2111⟩, (List.forall_mem_cons.mpr ⟨⟨kX1_doAll, q2328, rfl, Or.inl q2327⟩, (fun _ h => nomatch h)⟩)⟩)⟩)⟩)⟩)⟩)⟩)⟩)⟩)⟩)⟩)
def SK39 : List (Nat × Nat × (MI × Nat)) := SK39_0
theorem SK39_ok (X : XT) : ∀ r ∈ SK39, SS (mkG X) (cn 39) r.1 r.2.2.1 r.2.2.2 := SK39_0_ok X
def SK44_0 : List (Nat × Nat × (MI × Nat)) := [(73, 0, (mX2_at, 2))]
theorem SK44_0_ok (X : XT) : ∀ r ∈ SK44_0, SS (mkG X) (cn 44) r.1 r.2.2.1 r.2.2.2 := (List.forall_mem_cons.mpr ⟨⟨kX2_at, q1409, rfl, Or.inl q1522⟩, (fun _ h => nomatch h)⟩)
def SK44 : List (Nat × Nat × (MI × Nat)) := SK44_0
theorem SK44_ok (X : XT) : ∀ r ∈ SK44, SS (mkG X) (cn 44) r.1 r.2.2.1 r.2.2.2 := SK44_0_ok X
def SK49_0 : List (Nat × Nat × (MI × Nat)) := [(33, 0, (mX1_inRange, 3))]
theorem SK49_0_ok (X : XT) : ∀ r ∈ SK49_0, SS (mkG X) (cn 49) r.1 r.2.2.1 r.2.2.2 := (List.forall_mem_cons.mpr ⟨⟨kX1_inRange, q1335, rfl, Or.inr ⟨rfl, "TheatreSaga", (List.mem_of_getElem? (i := 59) rfl)⟩⟩, (fun _ h => nomatch h)⟩)
def SK49 : List (Nat × Nat × (MI × Nat)) := SK49_0
theorem SK49_ok (X : XT) : ∀ r ∈ SK49, SS (mkG X) (cn 49) r.1 r.2.2.1 r.2.2.2 := SK49_0_ok X
def SK40_0 : List (Nat × Nat × (MI × Nat)) := [(81, 0, (mX1_inRange, 3)), (85, 0, (mX1_requireIndex, 1)), (98, 0, (mX1_price, 1)), (120, 0, (mX1_require, 1)), (123, 0, (mX1_allow, 3)), (130, 0, (mX2_at, 2)), (137, 0, (mX1_all, 1))]
theorem SK40_0_ok (X : XT) : ∀ r ∈ SK40_0, SS (mkG X) (cn 40) r.1 r.2.2.1 r.2.2.2 := (List.forall_mem_cons.mpr ⟨⟨kX1_inRange, q1335, rfl, Or.inr ⟨rfl, "TheatreSaga", (List.mem_of_getElem? (i := 48) rfl)⟩⟩, (List.forall_mem_cons.mpr ⟨⟨kX1_requireIndex, q1412, rfl, Or.inr ⟨rfl, "TheatreSaga", (List.mem_of_getElem? (i := 52) rfl)⟩⟩, (List.forall_mem_cons.mpr ⟨⟨kX1_price, q1586, rfl, Or.inr ⟨rfl, "TheatreSaga", (List.mem_of_getElem? (i := 56) rfl)⟩⟩, (List.forall_mem_cons.mpr ⟨⟨kX1_require, q1338, rfl, Or.inr ⟨rfl, "TheatreSaga", (List.mem_of_getElem? (i := 49) rfl)⟩⟩, (List.forall_mem_cons.mpr ⟨⟨kX1_allow, q1348, rfl, Or.inr ⟨rfl, "TheatreSaga", (List.mem_of_getElem? (i := 50) rfl)⟩⟩, (List.forall_mem_cons.mpr ⟨⟨kX2_at, q1409, rfl, Or.inl q1408⟩, (List.forall_mem_cons.mpr ⟨⟨kX1_all, q1438, rfl, Or.inr ⟨rfl, "TheatreSaga", (List.mem_of_getElem? (i := 53) rfl)⟩⟩, (fun _ h => nomatch h)⟩)⟩)⟩)⟩)⟩)⟩)⟩)
def SK40 : List (Nat × Nat × (MI × Nat)) := SK40_0
theorem SK40_ok (X : XT) : ∀ r ∈ SK40, SS (mkG X) (cn 40) r.1 r.2.2.1 r.2.2.2 := SK40_0_ok X
def SK43_0 : List (Nat × Nat × (MI × Nat)) := [(69, 0, (mX1_allow, 3)), (120, 0, (mX9_backward, 2))]
theorem SK43_0_ok (X : XT) : ∀ r ∈ SK43_0, SS (mkG X) (cn 43) r.1 r.2.2.1 r.2.2.2 := (List.forall_mem_cons.mpr ⟨⟨kX1_allow, q1348, rfl, Or.inr ⟨rfl, "TheatreSaga", (List.mem_of_getElem? (i := 54) rfl)⟩⟩, (List.forall_mem_cons.mpr ⟨⟨kX9_backward, q1567, rfl, Or.inl q1566⟩, (fun _ h => nomatch h)⟩)⟩)
def SK43 : List (Nat × Nat × (MI × Nat)) := SK43_0
theorem SK43_ok (X : XT) : ∀ r ∈ SK43, SS (mkG X) (cn 43) r.1 r.2.2.1 r.2.2.2 := SK43_0_ok X
def SK41_0 : List (Nat × Nat × (MI × Nat)) := [(33, 0, (mX1_all, 1))]
theorem SK41_0_ok (X : XT) : ∀ r ∈ SK41_0, SS (mkG X) (cn 41) r.1 r.2.2.1 r.2.2.2 := (List.forall_mem_cons.mpr ⟨⟨kX1_all, q1438, rfl, Or.inr ⟨rfl, "TheatreSaga", (List.mem_of_getElem? (i := 55) rfl)⟩⟩, (fun _ h => nomatch h)⟩)
def SK41 : List (Nat × Nat × (MI × Nat)) := SK41_0
theorem SK41_ok (X : XT) : ∀ r ∈ SK41, SS (mkG X) (cn 41) r.1 r.2.2.1 r.2.2.2 := SK41_0_ok X
def SK47_0 : List (Nat × Nat × (MI × Nat)) := [(38, 0, (mX1_requireElement, 1))]
theorem SK47_0_ok (X : XT) : ∀ r ∈ SK47_0, SS (mkG X) (cn 47) r.1 r.2.2.1 r.2.2.2 := (List.forall_mem_cons.mpr ⟨⟨kX1_requireElement, q930, rfl, Or.inr ⟨rfl, "TheatreSaga", (List.mem_of_getElem? (i := 47) rfl)⟩⟩, (fun _ h => nomatch h)⟩)
def SK47 : List (Nat × Nat × (MI × Nat)) := SK47_0
theorem SK47_ok (X : XT) : ∀ r ∈ SK47, SS (mkG X) (cn 47) r.1 r.2.2.1 r.2.2.2 := SK47_0_ok X
def SK38_0 : List (Nat × Nat × (MI × Nat)) := [(120, 0, (mX0_tour, 3)), (129, 0, (mX0_step, 7)), (133, 0, (mX0_start, 3)), (136, 0, (mX0_back, 3)), (139, 0, (mX0_tourOf, 4)), (143, 0, (mX0_stepOf, 5)), (147, 0, (mX0_shut, 4)), (151, 0, (mX0_dear, 4)), (154, 0, (mX0_townOf, 4)), (157, 0, (mX0_pass, 3)), (160, 0, (mX0_left, 5)), (163, 0, (mX0_leftAgain, 5)), (166, 0, (mX0_faultOf, 3)), (169, 0, (mX0_endsIn, 3)), (172, 0, (mX0_costs, 3)), (175, 0, (mX0_cheapest, 5)), (178, 0, (mX0_ranked, 3)), (181, 0, (mX0_line, 3)), (184, 0, (mX0_character, 3)), (187, 0, (mX0_number, 3)), (194, 0, (mX0_meanSteps, 2)), (198, 0, (mX0_failedShare, 2)), (201, 0, (mX0_feed, 3)), (205, 0, (mX0_read, 2)), (209, 0, (mX0_faultPosition, 2)), (212, 0, (mX0_refusal, 3)), (216, 0, (mX0_undo, 2)), (223, 0, (mX0_restoreSnapshot, 2))]
theorem SK38_0_ok (X : XT) : ∀ r ∈ SK38_0, SS (mkG X) (cn 38) r.1 r.2.2.1 r.2.2.2 := (List.forall_mem_cons.mpr ⟨⟨kX0_tour, q1220, rfl, Or.inl q1219⟩, (List.forall_mem_cons.mpr ⟨⟨kX0_step, q1692, rfl, Or.inl q1691⟩, (List.forall_mem_cons.mpr ⟨⟨kX0_start, q1716, rfl, Or.inl q1715⟩, (List.forall_mem_cons.mpr ⟨⟨kX0_back, q1724, rfl, Or.inl q1723⟩, (List.forall_mem_cons.mpr ⟨⟨kX0_tourOf, q1732, rfl, Or.inl q1731⟩, (List.forall_mem_cons.mpr ⟨⟨kX0_stepOf, q1747, rfl, Or.inl q1746⟩, (List.forall_mem_cons.mpr ⟨⟨kX0_shut, q1759, rfl, Or.inl q1758⟩, (List.forall_mem_cons.mpr ⟨⟨kX0_dear, q1768, rfl, Or.inl q1767⟩, (List.forall_mem_cons.mpr ⟨⟨kX0_townOf, q1776, rfl, Or.inl q1775⟩, (List.forall_mem_cons.mpr ⟨⟨kX0_pass, q1796, rfl, Or.inl q1795⟩, (List.forall_mem_cons.mpr ⟨⟨kX0_left, q1804, rfl, Or.inl q1803⟩, (List.forall_mem_cons.mpr ⟨⟨kX0_leftAgain, q1817, rfl, Or.inl q1816⟩, (List.forall_mem_cons.mpr ⟨⟨kX0_faultOf, q1825, rfl, Or.inl q1824⟩, (List.forall_mem_cons.mpr ⟨⟨kX0_endsIn, q1836, rfl, Or.inl q1835⟩, (List.forall_mem_cons.mpr ⟨⟨kX0_costs, q1847, rfl, Or.inl q1846⟩, (List.forall_mem_cons.mpr ⟨⟨kX0_cheapest, q1857, rfl, Or.inl q1856⟩, (List.forall_mem_cons.mpr ⟨⟨kX0_ranked, q1895, rfl, Or.inl q1894⟩, (List.forall_mem_cons.mpr ⟨⟨kX0_line, q1961, rfl, Or.inl q1960⟩, (List.forall_mem_cons.mpr ⟨⟨kX0_character, q2030, rfl, Or.inl q2029⟩, (List.forall_mem_cons.mpr ⟨⟨kX0_number, q2055, rfl, Or.inl q2054⟩, (List.forall_mem_cons.mpr ⟨⟨kX0_meanSteps, q2069, rfl, Or.inl q2068⟩, (List.forall_mem_cons.mpr ⟨⟨kX0_failedShare, q2097, rfl, Or.inl q2096⟩, (List.forall_mem_cons.mpr ⟨⟨kX0_feed, q2104, rfl, Or.inl q2103⟩, (List.forall_mem_cons.mpr ⟨⟨kX0_read, q2120, rfl, Or.inl q2119⟩, (List.forall_mem_cons.mpr ⟨⟨kX0_faultPosition, q2331, rfl, Or.inl q2330⟩, (List.forall_mem_cons.mpr ⟨⟨kX0_refusal, q2338, rfl, Or.inl q2337⟩, (List.forall_mem_cons.mpr ⟨⟨kX0_undo, q2345, rfl, Or.inl q2344⟩, (List.forall_mem_cons.mpr ⟨⟨kX0_restoreSnapshot, q2371, rfl, Or.inl q2370⟩, (fun _ h => nomatch h)⟩)⟩)⟩)⟩)⟩)⟩)⟩)⟩)⟩)⟩)⟩)⟩)⟩)⟩)⟩)⟩)⟩)⟩)⟩)⟩)⟩)⟩)⟩)⟩)⟩)⟩)⟩)⟩)
def SK38 : List (Nat × Nat × (MI × Nat)) := SK38_0
theorem SK38_ok (X : XT) : ∀ r ∈ SK38, SS (mkG X) (cn 38) r.1 r.2.2.1 r.2.2.2 := SK38_0_ok X
def SK42_0 : List (Nat × Nat × (MI × Nat)) := [(60, 0, (mX4_in, 3)), (98, 0, (mX4_isTown, 1)), (101, 0, (mX4_isDay, 1)), (104, 0, (mX4_most, 1))]
theorem SK42_0_ok (X : XT) : ∀ r ∈ SK42_0, SS (mkG X) (cn 42) r.1 r.2.2.1 r.2.2.2 := (List.forall_mem_cons.mpr ⟨⟨kX4_in, q2467, rfl, Or.inl q2466⟩, (List.forall_mem_cons.mpr ⟨⟨kX4_isTown, q2502, rfl, Or.inl q2501⟩, (List.forall_mem_cons.mpr ⟨⟨kX4_isDay, q2505, rfl, Or.inl q2504⟩, (List.forall_mem_cons.mpr ⟨⟨kX4_most, q2508, rfl, Or.inl q2507⟩, (fun _ h => nomatch h)⟩)⟩)⟩)⟩)
def SK42 : List (Nat × Nat × (MI × Nat)) := SK42_0
theorem SK42_ok (X : XT) : ∀ r ∈ SK42, SS (mkG X) (cn 42) r.1 r.2.2.1 r.2.2.2 := SK42_0_ok X
def SK2_0 : List (Nat × Nat × (MI × Nat)) := [(26, 0, (mJ5_newBytesFor, 1)), (108, 0, (mJ10_copyOf_3, 2)), (114, 0, (mJ8_newLength, 3)), (125, 0, (mJ18_inflate, 5)), (133, 0, (mJ18_fillNull, 3)), (137, 0, (mJ5_fillNull, 3)), (144, 0, (mJ4_checkIndex, 2)), (148, 0, (mJ5_getChar, 2)), (191, 0, (mJ18_canEncode, 1)), (197, 0, (mJ5_putCharSB, 3)), (226, 0, (mJ5_putCharsAt, 6)), (245, 0, (mJ20_stringSize, 1)), (248, 0, (mJ20_getChars, 3)), (251, 0, (mJ5_getChars, 4))]
theorem SK2_0_ok (X : XT) : ∀ r ∈ SK2_0, SS (mkG X) (cn 2) r.1 r.2.2.1 r.2.2.2 := (List.forall_mem_cons.mpr ⟨⟨kJ5_newBytesFor, q167, rfl, Or.inl q166⟩, (List.forall_mem_cons.mpr ⟨⟨kJ10_copyOf_3, q592, rfl, Or.inl q591⟩, (List.forall_mem_cons.mpr ⟨⟨kJ8_newLength, q276, rfl, Or.inl q589⟩, (List.forall_mem_cons.mpr ⟨⟨kJ18_inflate, q655, rfl, Or.inl q654⟩, (List.forall_mem_cons.mpr ⟨⟨kJ18_fillNull, q2302, rfl, Or.inl q2301⟩, (List.forall_mem_cons.mpr ⟨⟨kJ5_fillNull, q2324, rfl, Or.inl q2323⟩, (List.forall_mem_cons.mpr ⟨⟨kJ4_checkIndex, q1977, rfl, Or.inl q2052⟩, (List.forall_mem_cons.mpr ⟨⟨kJ5_getChar, q784, rfl, Or.inl q2053⟩, (List.forall_mem_cons.mpr ⟨⟨kJ18_canEncode, q1995, rfl, Or.inl q1994⟩, (List.forall_mem_cons.mpr ⟨⟨kJ5_putCharSB, q1998, rfl, Or.inl q1997⟩, (List.forall_mem_cons.mpr ⟨⟨kJ5_putCharsAt, q607, rfl, Or.inl q606⟩, (List.forall_mem_cons.mpr ⟨⟨kJ20_stringSize, q683, rfl, Or.inl q682⟩, (List.forall_mem_cons.mpr ⟨⟨kJ20_getChars, q686, rfl, Or.inl q685⟩, (List.forall_mem_cons.mpr ⟨⟨kJ5_getChars, q693, rfl, Or.inl q692⟩, (fun _ h => nomatch h)⟩)⟩)⟩)⟩)⟩)⟩)⟩)⟩)⟩)⟩)⟩)⟩)⟩)⟩)
def SK2 : List (Nat × Nat × (MI × Nat)) := SK2_0
theorem SK2_ok (X : XT) : ∀ r ∈ SK2, SS (mkG X) (cn 2) r.1 r.2.2.1 r.2.2.2 := SK2_0_ok X
def SK4_0 : List (Nat × Nat × (MI × Nat)) := [(47, 0, (mJ5_coderFromArrayLen, 2)), (54, 0, (mJ10_copyOfRange, 3)), (106, 0, (mJ18_inflate, 5)), (495, 0, (mJ18_charAt, 2)), (498, 0, (mJ5_charAt, 2)), (521, 0, (mJ4_checkBoundsBeginEnd, 3)), (541, 0, (mJ18_equals, 2)), (628, 0, (mJ18_hashCode, 1)), (632, 0, (mJ5_hashCode, 1)), (637, 0, (mJ18_indexOf_3, 4)), (640, 0, (mJ5_indexOf_2, 4)), (647, 0, (mJ18_indexOf, 2)), (649, 0, (mJ5_indexOf, 2)), (650, 0, (mJ5_indexOfLatin1, 2)), (685, 0, (mJ18_newString, 3)), (689, 0, (mJ5_newString, 3)), (1051, 0, (mJ5_compress, 3)), (1059, 0, (mJ17_checkIndex, 3)), (1062, 0, (mJ17_checkFromToIndex, 4)), (1065, 0, (mJ17_checkFromIndexSize, 4))]
theorem SK4_0_ok (X : XT) : ∀ r ∈ SK4_0, SS (mkG X) (cn 4) r.1 r.2.2.1 r.2.2.2 := (List.forall_mem_cons.mpr ⟨⟨kJ5_coderFromArrayLen, q788, rfl, Or.inl q787⟩, (List.forall_mem_cons.mpr ⟨⟨kJ10_copyOfRange, q729, rfl, Or.inl q728⟩, (List.forall_mem_cons.mpr ⟨⟨kJ18_inflate, q655, rfl, Or.inl q674⟩, (List.forall_mem_cons.mpr ⟨⟨kJ18_charAt, q1974, rfl, Or.inl q1973⟩, (List.forall_mem_cons.mpr ⟨⟨kJ5_charAt, q1981, rfl, Or.inl q1980⟩, (List.forall_mem_cons.mpr ⟨⟨kJ4_checkBoundsBeginEnd, q616, rfl, Or.inl q2242⟩, (List.forall_mem_cons.mpr ⟨⟨kJ18_equals, q1319, rfl, Or.inl q1318⟩, (List.forall_mem_cons.mpr ⟨⟨kJ18_hashCode, q1260, rfl, Or.inl q1259⟩, (List.forall_mem_cons.mpr ⟨⟨kJ5_hashCode, q1309, rfl, Or.inl q1308⟩, (List.forall_mem_cons.mpr ⟨⟨kJ18_indexOf_3, q2717, rfl, Or.inl q2716⟩, (List.forall_mem_cons.mpr ⟨⟨kJ5_indexOf_2, q2728, rfl, Or.inl q2727⟩, (List.forall_mem_cons.mpr ⟨⟨kJ18_indexOf, q2185, rfl, Or.inl q2184⟩, (List.forall_mem_cons.mpr ⟨⟨kJ5_indexOf, q2191, rfl, Or.inl q2190⟩, (List.forall_mem_cons.mpr ⟨⟨kJ5_indexOfLatin1, q2197, rfl, Or.inl q2196⟩, (List.forall_mem_cons.mpr ⟨⟨kJ18_newString, q2244, rfl, Or.inl q2243⟩, (List.forall_mem_cons.mpr ⟨⟨kJ5_newString, q2253, rfl, Or.inl q2252⟩, (List.forall_mem_cons.mpr ⟨⟨kJ5_compress, q778, rfl, Or.inl q777⟩, (List.forall_mem_cons.mpr ⟨⟨kJ17_checkIndex, q966, rfl, Or.inl q1979⟩, (List.forall_mem_cons.mpr ⟨⟨kJ17_checkFromToIndex, q621, rfl, Or.inl q620⟩, (List.forall_mem_cons.mpr ⟨⟨kJ17_checkFromIndexSize, q667, rfl, Or.inl q666⟩, (fun _ h => nomatch h)⟩)⟩)⟩)⟩)⟩)⟩)⟩)⟩)⟩)⟩)⟩)⟩)⟩)⟩)⟩)⟩)⟩)⟩)⟩)⟩)
def SK4 : List (Nat × Nat × (MI × Nat)) := SK4_0
theorem SK4_ok (X : XT) : ∀ r ∈ SK4, SS (mkG X) (cn 4) r.1 r.2.2.1 r.2.2.2 := SK4_0_ok X
def SK18_0 : List (Nat × Nat × (MI × Nat)) := [(9, 0, (mJ4_checkIndex, 2)), (84, 0, (mJ8_vectorizedHashCode, 5)), (88, 0, (mJ18_canEncode_2, 1)), (95, 0, (mJ18_indexOfChar, 4)), (99, 0, (mJ18_indexOf_2, 5)), (232, 0, (mJ10_copyOfRange, 3)), (236, 0, (mJ10_fill, 4)), (240, 0, (mJ5_inflate, 5))]
theorem SK18_0_ok (X : XT) : ∀ r ∈ SK18_0, SS (mkG X) (cn 18) r.1 r.2.2.1 r.2.2.2 := (List.forall_mem_cons.mpr ⟨⟨kJ4_checkIndex, q1977, rfl, Or.inl q1976⟩, (List.forall_mem_cons.mpr ⟨⟨kJ8_vectorizedHashCode, q1263, rfl, Or.inl q1262⟩, (List.forall_mem_cons.mpr ⟨⟨kJ18_canEncode_2, q2720, rfl, Or.inl q2719⟩, (List.forall_mem_cons.mpr ⟨⟨kJ18_indexOfChar, q2725, rfl, Or.inl q2724⟩, (List.forall_mem_cons.mpr ⟨⟨kJ18_indexOf_2, q2188, rfl, Or.inl q2187⟩, (List.forall_mem_cons.mpr ⟨⟨kJ10_copyOfRange, q729, rfl, Or.inl q2248⟩, (List.forall_mem_cons.mpr ⟨⟨kJ10_fill, q2305, rfl, Or.inl q2304⟩, (List.forall_mem_cons.mpr ⟨⟨kJ5_inflate, q658, rfl, Or.inl q657⟩, (fun _ h => nomatch h)⟩)⟩)⟩)⟩)⟩)⟩)⟩)⟩)
def SK18 : List (Nat × Nat × (MI × Nat)) := SK18_0
theorem SK18_ok (X : XT) : ∀ r ∈ SK18, SS (mkG X) (cn 18) r.1 r.2.2.1 r.2.2.2 := SK18_0_ok X
def SK5_0 : List (Nat × Nat × (MI × Nat)) := [(11, 0, (mJ5_newBytesLength, 1)), (48, 0, (mJ5_length, 1)), (67, 0, (mJ5_checkIndex, 2)), (71, 0, (mJ5_getChar, 2)), (96, 0, (mJ5_checkBoundsBeginEnd, 3)), (111, 0, (mJ5_putChar, 3)), (123, 0, (mJ5_compress_2, 5)), (126, 0, (mJ10_copyOfRange, 3)), (173, 0, (mJ5_checkBoundsOffCount, 3)), (220, 0, (mJ8_vectorizedHashCode, 5)), (228, 0, (mJ5_indexOfChar, 4)), (232, 0, (mJ5_indexOfSupplementary, 4)), (235, 0, (mJ5_indexOfUnsafe, 5)), (238, 0, (mJ5_indexOfLatin1Unsafe, 5)), (241, 0, (mJ4_checkBoundsBeginEnd, 3)), (244, 0, (mJ5_indexOfCharUnsafe, 4)), (257, 0, (mJ5_compress, 3)), (259, 0, (mJ5_coderFromArrayLen, 2)), (380, 0, (mJ10_fill, 4)), (393, 0, (mJ5_getChars_2, 3)), (414, 0, (mJ4_checkIndex, 2)), (419, 0, (mJ4_checkBoundsOffCount, 3))]
theorem SK5_0_ok (X : XT) : ∀ r ∈ SK5_0, SS (mkG X) (cn 5) r.1 r.2.2.1 r.2.2.2 := (List.forall_mem_cons.mpr ⟨⟨kJ5_newBytesLength, q170, rfl, Or.inl q169⟩, (List.forall_mem_cons.mpr ⟨⟨kJ5_length, q613, rfl, Or.inl q612⟩, (List.forall_mem_cons.mpr ⟨⟨kJ5_checkIndex, q1984, rfl, Or.inl q1983⟩, (List.forall_mem_cons.mpr ⟨⟨kJ5_getChar, q784, rfl, Or.inl q783⟩, (List.forall_mem_cons.mpr ⟨⟨kJ5_checkBoundsBeginEnd, q610, rfl, Or.inl q609⟩, (List.forall_mem_cons.mpr ⟨⟨kJ5_putChar, q624, rfl, Or.inl q623⟩, (List.forall_mem_cons.mpr ⟨⟨kJ5_compress_2, q781, rfl, Or.inl q780⟩, (List.forall_mem_cons.mpr ⟨⟨kJ10_copyOfRange, q729, rfl, Or.inl q786⟩, (List.forall_mem_cons.mpr ⟨⟨kJ5_checkBoundsOffCount, q661, rfl, Or.inl q660⟩, (List.forall_mem_cons.mpr ⟨⟨kJ8_vectorizedHashCode, q1263, rfl, Or.inl q1311⟩, (List.forall_mem_cons.mpr ⟨⟨kJ5_indexOfChar, q2734, rfl, Or.inl q2733⟩, (List.forall_mem_cons.mpr ⟨⟨kJ5_indexOfSupplementary, q2740, rfl, Or.inl q2739⟩, (List.forall_mem_cons.mpr ⟨⟨kJ5_indexOfUnsafe, q2194, rfl, Or.inl q2193⟩, (List.forall_mem_cons.mpr ⟨⟨kJ5_indexOfLatin1Unsafe, q2200, rfl, Or.inl q2199⟩, (List.forall_mem_cons.mpr ⟨⟨kJ4_checkBoundsBeginEnd, q616, rfl, Or.inl q615⟩, (List.forall_mem_cons.mpr ⟨⟨kJ5_indexOfCharUnsafe, q2737, rfl, Or.inl q2736⟩, (List.forall_mem_cons.mpr ⟨⟨kJ5_compress, q778, rfl, Or.inl q2257⟩, (List.forall_mem_cons.mpr ⟨⟨kJ5_coderFromArrayLen, q788, rfl, Or.inl q2258⟩, (List.forall_mem_cons.mpr ⟨⟨kJ10_fill, q2305, rfl, Or.inl q2326⟩, (List.forall_mem_cons.mpr ⟨⟨kJ5_getChars_2, q696, rfl, Or.inl q695⟩, (List.forall_mem_cons.mpr ⟨⟨kJ4_checkIndex, q1977, rfl, Or.inl q1986⟩, (List.forall_mem_cons.mpr ⟨⟨kJ4_checkBoundsOffCount, q664, rfl, Or.inl q663⟩, (fun _ h => nomatch h)⟩)⟩)⟩)⟩)⟩)⟩)⟩)⟩)⟩)⟩)⟩)⟩)⟩)⟩)⟩)⟩)⟩)⟩)⟩)⟩)⟩)⟩)
def SK5 : List (Nat × Nat × (MI × Nat)) := SK5_0
theorem SK5_ok (X : XT) : ∀ r ∈ SK5, SS (mkG X) (cn 5) r.1 r.2.2.1 r.2.2.2 := SK5_0_ok X
def SK37_0 : List (Nat × Nat × (MI × Nat)) := [(185, 0, (mJ5_getChar, 2))]
theorem SK37_0_ok (X : XT) : ∀ r ∈ SK37_0, SS (mkG X) (cn 37) r.1 r.2.2.1 r.2.2.2 := (List.forall_mem_cons.mpr ⟨⟨kJ5_getChar, q784, rfl, Or.inl q1284⟩, (fun _ h => nomatch h)⟩)
def SK37 : List (Nat × Nat × (MI × Nat)) := SK37_0
theorem SK37_ok (X : XT) : ∀ r ∈ SK37, SS (mkG X) (cn 37) r.1 r.2.2.1 r.2.2.2 := SK37_0_ok X
def SK1_0 : List (Nat × Nat × (MI × Nat)) := [(14, 0, (mJ10_copyOf, 2)), (68, 0, (mJ1_dec, 2)), (74, 0, (mJ1_inc, 2)), (103, 0, (mJ1_elementAt, 2)), (127, 0, (mJ1_sub, 3)), (181, 0, (mJ1_circularClear, 3)), (193, 0, (mJ10_copyOfRange_2, 4))]
theorem SK1_0_ok (X : XT) : ∀ r ∈ SK1_0, SS (mkG X) (cn 1) r.1 r.2.2.1 r.2.2.2 := (List.forall_mem_cons.mpr ⟨⟨kJ10_copyOf, q286, rfl, Or.inl q1671⟩, (List.forall_mem_cons.mpr ⟨⟨kJ1_dec, q1630, rfl, Or.inl q1629⟩, (List.forall_mem_cons.mpr ⟨⟨kJ1_inc, q2368, rfl, Or.inl q2367⟩, (List.forall_mem_cons.mpr ⟨⟨kJ1_elementAt, q1633, rfl, Or.inl q1632⟩, (List.forall_mem_cons.mpr ⟨⟨kJ1_sub, q1516, rfl, Or.inl q1515⟩, (List.forall_mem_cons.mpr ⟨⟨kJ1_circularClear, q2382, rfl, Or.inl q2381⟩, (List.forall_mem_cons.mpr ⟨⟨kJ10_copyOfRange_2, q1180, rfl, Or.inl q1179⟩, (fun _ h => nomatch h)⟩)⟩)⟩)⟩)⟩)⟩)⟩)
def SK1 : List (Nat × Nat × (MI × Nat)) := SK1_0
theorem SK1_ok (X : XT) : ∀ r ∈ SK1, SS (mkG X) (cn 1) r.1 r.2.2.1 r.2.2.2 := SK1_0_ok X
def SK7_0 : List (Nat × Nat × (MI × Nat)) := [(66, 0, (mJ10_copyOf, 2)), (73, 0, (mJ8_newLength, 3)), (118, 0, (mJ26_checkIndex, 2))]
theorem SK7_0_ok (X : XT) : ∀ r ∈ SK7_0, SS (mkG X) (cn 7) r.1 r.2.2.1 r.2.2.2 := (List.forall_mem_cons.mpr ⟨⟨kJ10_copyOf, q286, rfl, Or.inl q285⟩, (List.forall_mem_cons.mpr ⟨⟨kJ8_newLength, q276, rfl, Or.inl q275⟩, (List.forall_mem_cons.mpr ⟨⟨kJ26_checkIndex, q963, rfl, Or.inl q962⟩, (fun _ h => nomatch h)⟩)⟩)⟩)
def SK7 : List (Nat × Nat × (MI × Nat)) := SK7_0
theorem SK7_ok (X : XT) : ∀ r ∈ SK7, SS (mkG X) (cn 7) r.1 r.2.2.1 r.2.2.2 := SK7_0_ok X
def SK10_0 : List (Nat × Nat × (MI × Nat)) := [(13, 0, (mJ10_rangeCheck, 3)), (300, 0, (mJ10_copyOf_2, 3)), (339, 0, (mJ10_copyOfRangeByte, 3)), (343, 0, (mJ10_checkLength, 2))]
theorem SK10_0_ok (X : XT) : ∀ r ∈ SK10_0, SS (mkG X) (cn 10) r.1 r.2.2.1 r.2.2.2 := (List.forall_mem_cons.mpr ⟨⟨kJ10_rangeCheck, q2308, rfl, Or.inl q2307⟩, (List.forall_mem_cons.mpr ⟨⟨kJ10_copyOf_2, q325, rfl, Or.inl q324⟩, (List.forall_mem_cons.mpr ⟨⟨kJ10_copyOfRangeByte, q732, rfl, Or.inl q731⟩, (List.forall_mem_cons.mpr ⟨⟨kJ10_checkLength, q735, rfl, Or.inl q734⟩, (fun _ h => nomatch h)⟩)⟩)⟩)⟩)
def SK10 : List (Nat × Nat × (MI × Nat)) := SK10_0
theorem SK10_ok (X : XT) : ∀ r ∈ SK10, SS (mkG X) (cn 10) r.1 r.2.2.1 r.2.2.2 := SK10_0_ok X
def SK26_0 : List (Nat × Nat × (MI × Nat)) := [(105, 0, (mJ17_checkIndex, 3))]
theorem SK26_0_ok (X : XT) : ∀ r ∈ SK26_0, SS (mkG X) (cn 26) r.1 r.2.2.1 r.2.2.2 := (List.forall_mem_cons.mpr ⟨⟨kJ17_checkIndex, q966, rfl, Or.inl q965⟩, (fun _ h => nomatch h)⟩)
def SK26 : List (Nat × Nat × (MI × Nat)) := SK26_0
theorem SK26_ok (X : XT) : ∀ r ∈ SK26, SS (mkG X) (cn 26) r.1 r.2.2.1 r.2.2.2 := SK26_0_ok X
def SK8_0 : List (Nat × Nat × (MI × Nat)) := [(62, 0, (mJ8_signedHashCode, 4)), (66, 0, (mJ8_utf16hashCode, 4)), (71, 0, (mJ8_hashCode, 4)), (75, 0, (mJ8_hashCode_2, 4)), (79, 0, (mJ8_hashCode_3, 4)), (84, 0, (mJ8_hashCode_4, 4)), (201, 0, (mJ8_hugeLength, 2))]
theorem SK8_0_ok (X : XT) : ∀ r ∈ SK8_0, SS (mkG X) (cn 8) r.1 r.2.2.1 r.2.2.2 := (List.forall_mem_cons.mpr ⟨⟨kJ8_signedHashCode, q1267, rfl, Or.inl q1266⟩, (List.forall_mem_cons.mpr ⟨⟨kJ8_utf16hashCode, q1270, rfl, Or.inl q1269⟩, (List.forall_mem_cons.mpr ⟨⟨kJ8_hashCode, q1287, rfl, Or.inl q1286⟩, (List.forall_mem_cons.mpr ⟨⟨kJ8_hashCode_2, q1290, rfl, Or.inl q1289⟩, (List.forall_mem_cons.mpr ⟨⟨kJ8_hashCode_3, q1294, rfl, Or.inl q1293⟩, (List.forall_mem_cons.mpr ⟨⟨kJ8_hashCode_4, q1298, rfl, Or.inl q1297⟩, (List.forall_mem_cons.mpr ⟨⟨kJ8_hugeLength, q283, rfl, Or.inl q282⟩, (fun _ h => nomatch h)⟩)⟩)⟩)⟩)⟩)⟩)⟩)
def SK8 : List (Nat × Nat × (MI × Nat)) := SK8_0
theorem SK8_ok (X : XT) : ∀ r ∈ SK8, SS (mkG X) (cn 8) r.1 r.2.2.1 r.2.2.2 := SK8_0_ok X
def SKT : Nat → List (Nat × Nat × (MI × Nat))
  | 39 => SK39
  | 44 => SK44
  | 49 => SK49
  | 40 => SK40
  | 43 => SK43
  | 41 => SK41
  | 47 => SK47
  | 38 => SK38
  | 42 => SK42
  | 2 => SK2
  | 4 => SK4
  | 18 => SK18
  | 5 => SK5
  | 37 => SK37
  | 1 => SK1
  | 7 => SK7
  | 10 => SK10
  | 26 => SK26
  | 8 => SK8
  | _ => []
def SK (o i c : Nat) : Option ((MI × Nat)) := lk (SKT o) i c
theorem SK_ok (X : XT) (o : Nat) : ∀ r ∈ SKT o, SS (mkG X) (cn o) r.1 r.2.2.1 r.2.2.2 := by
  unfold SKT
  split
  · exact SK39_ok X
  · exact SK44_ok X
  · exact SK49_ok X
  · exact SK40_ok X
  · exact SK43_ok X
  · exact SK41_ok X
  · exact SK47_ok X
  · exact SK38_ok X
  · exact SK42_ok X
  · exact SK2_ok X
  · exact SK4_ok X
  · exact SK18_ok X
  · exact SK5_ok X
  · exact SK37_ok X
  · exact SK1_ok X
  · exact SK7_ok X
  · exact SK10_ok X
  · exact SK26_ok X
  · exact SK8_ok X
  · exact fun _ h => nomatch h
theorem sk_39_108_0 : SK 39 108 0 = some ((mX2_at, 2)) := rfl
theorem sk_39_129_0 : SK 39 129 0 = some ((mX1_inRange, 3)) := rfl
theorem sk_39_133_0 : SK 39 133 0 = some ((mX1_require, 1)) := rfl
theorem sk_39_204_0 : SK 39 204 0 = some ((mX9_backward, 2)) := rfl
theorem sk_39_232_0 : SK 39 232 0 = some ((mX1_requireIndex, 1)) := rfl
theorem sk_39_243_0 : SK 39 243 0 = some ((mX1_all, 1)) := rfl
theorem sk_39_250_0 : SK 39 250 0 = some ((mX1_requireElement, 1)) := rfl
theorem sk_39_298_0 : SK 39 298 0 = some ((mJ20_valueOf, 1)) := rfl
theorem sk_39_365_0 : SK 39 365 0 = some ((mX1_sum, 1)) := rfl
theorem sk_39_375_0 : SK 39 375 0 = some ((mX1_requireState, 1)) := rfl
theorem sk_39_398_0 : SK 39 398 0 = some ((mX1_doAll, 2)) := rfl
theorem sk_44_73_0 : SK 44 73 0 = some ((mX2_at, 2)) := rfl
theorem sk_49_33_0 : SK 49 33 0 = some ((mX1_inRange, 3)) := rfl
theorem sk_40_81_0 : SK 40 81 0 = some ((mX1_inRange, 3)) := rfl
theorem sk_40_85_0 : SK 40 85 0 = some ((mX1_requireIndex, 1)) := rfl
theorem sk_40_98_0 : SK 40 98 0 = some ((mX1_price, 1)) := rfl
theorem sk_40_120_0 : SK 40 120 0 = some ((mX1_require, 1)) := rfl
theorem sk_40_123_0 : SK 40 123 0 = some ((mX1_allow, 3)) := rfl
theorem sk_40_130_0 : SK 40 130 0 = some ((mX2_at, 2)) := rfl
theorem sk_40_137_0 : SK 40 137 0 = some ((mX1_all, 1)) := rfl
theorem sk_43_69_0 : SK 43 69 0 = some ((mX1_allow, 3)) := rfl
theorem sk_43_120_0 : SK 43 120 0 = some ((mX9_backward, 2)) := rfl
theorem sk_41_33_0 : SK 41 33 0 = some ((mX1_all, 1)) := rfl
theorem sk_47_38_0 : SK 47 38 0 = some ((mX1_requireElement, 1)) := rfl
theorem sk_38_120_0 : SK 38 120 0 = some ((mX0_tour, 3)) := rfl
theorem sk_38_129_0 : SK 38 129 0 = some ((mX0_step, 7)) := rfl
theorem sk_38_133_0 : SK 38 133 0 = some ((mX0_start, 3)) := rfl
theorem sk_38_136_0 : SK 38 136 0 = some ((mX0_back, 3)) := rfl
theorem sk_38_139_0 : SK 38 139 0 = some ((mX0_tourOf, 4)) := rfl
theorem sk_38_143_0 : SK 38 143 0 = some ((mX0_stepOf, 5)) := rfl
theorem sk_38_147_0 : SK 38 147 0 = some ((mX0_shut, 4)) := rfl
theorem sk_38_151_0 : SK 38 151 0 = some ((mX0_dear, 4)) := rfl
theorem sk_38_154_0 : SK 38 154 0 = some ((mX0_townOf, 4)) := rfl
theorem sk_38_157_0 : SK 38 157 0 = some ((mX0_pass, 3)) := rfl
theorem sk_38_160_0 : SK 38 160 0 = some ((mX0_left, 5)) := rfl
theorem sk_38_163_0 : SK 38 163 0 = some ((mX0_leftAgain, 5)) := rfl
theorem sk_38_166_0 : SK 38 166 0 = some ((mX0_faultOf, 3)) := rfl
theorem sk_38_169_0 : SK 38 169 0 = some ((mX0_endsIn, 3)) := rfl
theorem sk_38_172_0 : SK 38 172 0 = some ((mX0_costs, 3)) := rfl
theorem sk_38_175_0 : SK 38 175 0 = some ((mX0_cheapest, 5)) := rfl
theorem sk_38_178_0 : SK 38 178 0 = some ((mX0_ranked, 3)) := rfl
theorem sk_38_181_0 : SK 38 181 0 = some ((mX0_line, 3)) := rfl
theorem sk_38_184_0 : SK 38 184 0 = some ((mX0_character, 3)) := rfl
theorem sk_38_187_0 : SK 38 187 0 = some ((mX0_number, 3)) := rfl
theorem sk_38_194_0 : SK 38 194 0 = some ((mX0_meanSteps, 2)) := rfl
theorem sk_38_198_0 : SK 38 198 0 = some ((mX0_failedShare, 2)) := rfl
theorem sk_38_201_0 : SK 38 201 0 = some ((mX0_feed, 3)) := rfl
theorem sk_38_205_0 : SK 38 205 0 = some ((mX0_read, 2)) := rfl
theorem sk_38_209_0 : SK 38 209 0 = some ((mX0_faultPosition, 2)) := rfl
theorem sk_38_212_0 : SK 38 212 0 = some ((mX0_refusal, 3)) := rfl
theorem sk_38_216_0 : SK 38 216 0 = some ((mX0_undo, 2)) := rfl
theorem sk_38_223_0 : SK 38 223 0 = some ((mX0_restoreSnapshot, 2)) := rfl
theorem sk_42_60_0 : SK 42 60 0 = some ((mX4_in, 3)) := rfl
theorem sk_42_98_0 : SK 42 98 0 = some ((mX4_isTown, 1)) := rfl
theorem sk_42_101_0 : SK 42 101 0 = some ((mX4_isDay, 1)) := rfl
theorem sk_42_104_0 : SK 42 104 0 = some ((mX4_most, 1)) := rfl
theorem sk_2_26_0 : SK 2 26 0 = some ((mJ5_newBytesFor, 1)) := rfl
theorem sk_2_108_0 : SK 2 108 0 = some ((mJ10_copyOf_3, 2)) := rfl
theorem sk_2_114_0 : SK 2 114 0 = some ((mJ8_newLength, 3)) := rfl
theorem sk_2_125_0 : SK 2 125 0 = some ((mJ18_inflate, 5)) := rfl
theorem sk_2_133_0 : SK 2 133 0 = some ((mJ18_fillNull, 3)) := rfl
theorem sk_2_137_0 : SK 2 137 0 = some ((mJ5_fillNull, 3)) := rfl
theorem sk_2_144_0 : SK 2 144 0 = some ((mJ4_checkIndex, 2)) := rfl
theorem sk_2_148_0 : SK 2 148 0 = some ((mJ5_getChar, 2)) := rfl
theorem sk_2_191_0 : SK 2 191 0 = some ((mJ18_canEncode, 1)) := rfl
theorem sk_2_197_0 : SK 2 197 0 = some ((mJ5_putCharSB, 3)) := rfl
theorem sk_2_226_0 : SK 2 226 0 = some ((mJ5_putCharsAt, 6)) := rfl
theorem sk_2_245_0 : SK 2 245 0 = some ((mJ20_stringSize, 1)) := rfl
theorem sk_2_248_0 : SK 2 248 0 = some ((mJ20_getChars, 3)) := rfl
theorem sk_2_251_0 : SK 2 251 0 = some ((mJ5_getChars, 4)) := rfl
theorem sk_4_47_0 : SK 4 47 0 = some ((mJ5_coderFromArrayLen, 2)) := rfl
theorem sk_4_54_0 : SK 4 54 0 = some ((mJ10_copyOfRange, 3)) := rfl
theorem sk_4_106_0 : SK 4 106 0 = some ((mJ18_inflate, 5)) := rfl
theorem sk_4_495_0 : SK 4 495 0 = some ((mJ18_charAt, 2)) := rfl
theorem sk_4_498_0 : SK 4 498 0 = some ((mJ5_charAt, 2)) := rfl
theorem sk_4_521_0 : SK 4 521 0 = some ((mJ4_checkBoundsBeginEnd, 3)) := rfl
theorem sk_4_541_0 : SK 4 541 0 = some ((mJ18_equals, 2)) := rfl
theorem sk_4_628_0 : SK 4 628 0 = some ((mJ18_hashCode, 1)) := rfl
theorem sk_4_632_0 : SK 4 632 0 = some ((mJ5_hashCode, 1)) := rfl
theorem sk_4_637_0 : SK 4 637 0 = some ((mJ18_indexOf_3, 4)) := rfl
theorem sk_4_640_0 : SK 4 640 0 = some ((mJ5_indexOf_2, 4)) := rfl
theorem sk_4_647_0 : SK 4 647 0 = some ((mJ18_indexOf, 2)) := rfl
theorem sk_4_649_0 : SK 4 649 0 = some ((mJ5_indexOf, 2)) := rfl
theorem sk_4_650_0 : SK 4 650 0 = some ((mJ5_indexOfLatin1, 2)) := rfl
theorem sk_4_685_0 : SK 4 685 0 = some ((mJ18_newString, 3)) := rfl
theorem sk_4_689_0 : SK 4 689 0 = some ((mJ5_newString, 3)) := rfl
theorem sk_4_1051_0 : SK 4 1051 0 = some ((mJ5_compress, 3)) := rfl
theorem sk_4_1059_0 : SK 4 1059 0 = some ((mJ17_checkIndex, 3)) := rfl
theorem sk_4_1062_0 : SK 4 1062 0 = some ((mJ17_checkFromToIndex, 4)) := rfl
theorem sk_4_1065_0 : SK 4 1065 0 = some ((mJ17_checkFromIndexSize, 4)) := rfl
theorem sk_18_9_0 : SK 18 9 0 = some ((mJ4_checkIndex, 2)) := rfl
theorem sk_18_84_0 : SK 18 84 0 = some ((mJ8_vectorizedHashCode, 5)) := rfl
theorem sk_18_88_0 : SK 18 88 0 = some ((mJ18_canEncode_2, 1)) := rfl
theorem sk_18_95_0 : SK 18 95 0 = some ((mJ18_indexOfChar, 4)) := rfl
theorem sk_18_99_0 : SK 18 99 0 = some ((mJ18_indexOf_2, 5)) := rfl
theorem sk_18_232_0 : SK 18 232 0 = some ((mJ10_copyOfRange, 3)) := rfl
theorem sk_18_236_0 : SK 18 236 0 = some ((mJ10_fill, 4)) := rfl
theorem sk_18_240_0 : SK 18 240 0 = some ((mJ5_inflate, 5)) := rfl
theorem sk_5_11_0 : SK 5 11 0 = some ((mJ5_newBytesLength, 1)) := rfl
theorem sk_5_48_0 : SK 5 48 0 = some ((mJ5_length, 1)) := rfl
theorem sk_5_67_0 : SK 5 67 0 = some ((mJ5_checkIndex, 2)) := rfl
theorem sk_5_71_0 : SK 5 71 0 = some ((mJ5_getChar, 2)) := rfl
theorem sk_5_96_0 : SK 5 96 0 = some ((mJ5_checkBoundsBeginEnd, 3)) := rfl
theorem sk_5_111_0 : SK 5 111 0 = some ((mJ5_putChar, 3)) := rfl
theorem sk_5_123_0 : SK 5 123 0 = some ((mJ5_compress_2, 5)) := rfl
theorem sk_5_126_0 : SK 5 126 0 = some ((mJ10_copyOfRange, 3)) := rfl
theorem sk_5_173_0 : SK 5 173 0 = some ((mJ5_checkBoundsOffCount, 3)) := rfl
theorem sk_5_220_0 : SK 5 220 0 = some ((mJ8_vectorizedHashCode, 5)) := rfl
theorem sk_5_228_0 : SK 5 228 0 = some ((mJ5_indexOfChar, 4)) := rfl
theorem sk_5_232_0 : SK 5 232 0 = some ((mJ5_indexOfSupplementary, 4)) := rfl
theorem sk_5_235_0 : SK 5 235 0 = some ((mJ5_indexOfUnsafe, 5)) := rfl
theorem sk_5_238_0 : SK 5 238 0 = some ((mJ5_indexOfLatin1Unsafe, 5)) := rfl
theorem sk_5_241_0 : SK 5 241 0 = some ((mJ4_checkBoundsBeginEnd, 3)) := rfl
theorem sk_5_244_0 : SK 5 244 0 = some ((mJ5_indexOfCharUnsafe, 4)) := rfl
theorem sk_5_257_0 : SK 5 257 0 = some ((mJ5_compress, 3)) := rfl
theorem sk_5_259_0 : SK 5 259 0 = some ((mJ5_coderFromArrayLen, 2)) := rfl
theorem sk_5_380_0 : SK 5 380 0 = some ((mJ10_fill, 4)) := rfl
theorem sk_5_393_0 : SK 5 393 0 = some ((mJ5_getChars_2, 3)) := rfl
theorem sk_5_414_0 : SK 5 414 0 = some ((mJ4_checkIndex, 2)) := rfl
theorem sk_5_419_0 : SK 5 419 0 = some ((mJ4_checkBoundsOffCount, 3)) := rfl
theorem sk_37_185_0 : SK 37 185 0 = some ((mJ5_getChar, 2)) := rfl
theorem sk_1_14_0 : SK 1 14 0 = some ((mJ10_copyOf, 2)) := rfl
theorem sk_1_68_0 : SK 1 68 0 = some ((mJ1_dec, 2)) := rfl
theorem sk_1_74_0 : SK 1 74 0 = some ((mJ1_inc, 2)) := rfl
theorem sk_1_103_0 : SK 1 103 0 = some ((mJ1_elementAt, 2)) := rfl
theorem sk_1_127_0 : SK 1 127 0 = some ((mJ1_sub, 3)) := rfl
theorem sk_1_181_0 : SK 1 181 0 = some ((mJ1_circularClear, 3)) := rfl
theorem sk_1_193_0 : SK 1 193 0 = some ((mJ10_copyOfRange_2, 4)) := rfl
theorem sk_7_66_0 : SK 7 66 0 = some ((mJ10_copyOf, 2)) := rfl
theorem sk_7_73_0 : SK 7 73 0 = some ((mJ8_newLength, 3)) := rfl
theorem sk_7_118_0 : SK 7 118 0 = some ((mJ26_checkIndex, 2)) := rfl
theorem sk_10_13_0 : SK 10 13 0 = some ((mJ10_rangeCheck, 3)) := rfl
theorem sk_10_300_0 : SK 10 300 0 = some ((mJ10_copyOf_2, 3)) := rfl
theorem sk_10_339_0 : SK 10 339 0 = some ((mJ10_copyOfRangeByte, 3)) := rfl
theorem sk_10_343_0 : SK 10 343 0 = some ((mJ10_checkLength, 2)) := rfl
theorem sk_26_105_0 : SK 26 105 0 = some ((mJ17_checkIndex, 3)) := rfl
theorem sk_8_62_0 : SK 8 62 0 = some ((mJ8_signedHashCode, 4)) := rfl
theorem sk_8_66_0 : SK 8 66 0 = some ((mJ8_utf16hashCode, 4)) := rfl
theorem sk_8_71_0 : SK 8 71 0 = some ((mJ8_hashCode, 4)) := rfl
theorem sk_8_75_0 : SK 8 75 0 = some ((mJ8_hashCode_2, 4)) := rfl
theorem sk_8_79_0 : SK 8 79 0 = some ((mJ8_hashCode_3, 4)) := rfl
theorem sk_8_84_0 : SK 8 84 0 = some ((mJ8_hashCode_4, 4)) := rfl
theorem sk_8_201_0 : SK 8 201 0 = some ((mJ8_hugeLength, 2)) := rfl
def IK39_0 : List (Nat × Nat × (MI × Nat)) := [(18, 0, (mX7_init, 2)), (28, 0, (mJ1_init, 0)), (35, 0, (mJ3_init, 0)), (42, 0, (mX2_init, 0)), (57, 0, (mX2_init_2, 1)), (89, 0, (mX6_init, 2)), (265, 0, (mX9_init, 2)), (274, 0, (mX10_init, 4)), (286, 0, (mJ32_init, 0)), (380, 0, (mX11_init, 1))]
theorem IK39_0_ok (X : XT) : ∀ r ∈ IK39_0, IS (mkG X) (cn 39) r.1 r.2.2.1 r.2.2.2 := (List.forall_mem_cons.mpr ⟨⟨kX7_init, q1359, rfl, rfl, Or.inl ⟨rfl, rfl, Or.inl q1358⟩⟩, (List.forall_mem_cons.mpr ⟨⟨kJ1_init, q137, rfl, rfl, Or.inl ⟨rfl, rfl, Or.inl q136⟩⟩, (List.forall_mem_cons.mpr ⟨⟨kJ3_init, q158, rfl, rfl, Or.inl ⟨rfl, rfl, Or.inl q157⟩⟩, (List.forall_mem_cons.mpr ⟨⟨kX2_init, q191, rfl, rfl, Or.inl ⟨rfl, rfl, Or.inl q190⟩⟩, (List.forall_mem_cons.mpr ⟨⟨kX2_init_2, q462, rfl, rfl, Or.inl ⟨rfl, rfl, Or.inl q461⟩⟩, (List.forall_mem_cons.mpr ⟨⟨kX6_init, q1237, rfl, rfl, Or.inl ⟨rfl, rfl, Or.inl q1236⟩⟩, (List.forall_mem_cons.mpr ⟨⟨kX9_init, q1452, rfl, rfl, Or.inl ⟨rfl, rfl, Or.inl q1854⟩⟩, (List.forall_mem_cons.mpr ⟨⟨kX10_init, q1866, rfl, rfl, Or.inl ⟨rfl, rfl, Or.inl q1865⟩⟩, (List.forall_mem_cons.mpr ⟨⟨kJ32_init, q1903, rfl, rfl, Or.inl ⟨rfl, rfl, Or.inl q1902⟩⟩, (List.forall_mem_cons.mpr ⟨⟨kX11_init, q2134, rfl, rfl, Or.inl ⟨rfl, rfl, Or.inr ⟨"TheatreSaga", (List.mem_of_getElem? (i := 58) rfl)⟩⟩⟩, (fun _ h => nomatch h)⟩)⟩)⟩)⟩)⟩)⟩)⟩)⟩)⟩)⟩)
def IK39 : List (Nat × Nat × (MI × Nat)) := IK39_0
theorem IK39_ok (X : XT) : ∀ r ∈ IK39, IS (mkG X) (cn 39) r.1 r.2.2.1 r.2.2.2 := IK39_0_ok X
def IK44_0 : List (Nat × Nat × (MI × Nat)) := [(21, 0, (mX8_init, 4))]
theorem IK44_0_ok (X : XT) : ∀ r ∈ IK44_0, IS (mkG X) (cn 44) r.1 r.2.2.1 r.2.2.2 := (List.forall_mem_cons.mpr ⟨⟨kX8_init, q1385, rfl, rfl, Or.inl ⟨rfl, rfl, Or.inr ⟨"TheatreSaga", (List.mem_of_getElem? (i := 51) rfl)⟩⟩⟩, (fun _ h => nomatch h)⟩)
def IK44 : List (Nat × Nat × (MI × Nat)) := IK44_0
theorem IK44_ok (X : XT) : ∀ r ∈ IK44, IS (mkG X) (cn 44) r.1 r.2.2.1 r.2.2.2 := IK44_0_ok X
def IK50_0 : List (Nat × Nat × (MI × Nat)) := [(1, 0, (mJ14_init_4, 4))]
theorem IK50_0_ok (X : XT) : ∀ r ∈ IK50_0, IS (mkG X) (cn 50) r.1 r.2.2.1 r.2.2.2 := (List.forall_mem_cons.mpr ⟨⟨kJ14_init_4, q1362, rfl, rfl, Or.inl ⟨rfl, rfl, Or.inl q2222⟩⟩, (fun _ h => nomatch h)⟩)
def IK50 : List (Nat × Nat × (MI × Nat)) := IK50_0
theorem IK50_ok (X : XT) : ∀ r ∈ IK50, IS (mkG X) (cn 50) r.1 r.2.2.1 r.2.2.2 := IK50_0_ok X
def IK49_0 : List (Nat × Nat × (MI × Nat)) := [(43, 0, (mX12_init, 1)), (54, 0, (mJ3_init, 0)), (100, 0, (mX6_init, 2)), (105, 0, (mJ32_init, 0))]
theorem IK49_0_ok (X : XT) : ∀ r ∈ IK49_0, IS (mkG X) (cn 49) r.1 r.2.2.1 r.2.2.2 := (List.forall_mem_cons.mpr ⟨⟨kX12_init, q2220, rfl, rfl, Or.inl ⟨rfl, rfl, Or.inl q2219⟩⟩, (List.forall_mem_cons.mpr ⟨⟨kJ3_init, q158, rfl, rfl, Or.inl ⟨rfl, rfl, Or.inl q2161⟩⟩, (List.forall_mem_cons.mpr ⟨⟨kX6_init, q1237, rfl, rfl, Or.inl ⟨rfl, rfl, Or.inl q2272⟩⟩, (List.forall_mem_cons.mpr ⟨⟨kJ32_init, q1903, rfl, rfl, Or.inl ⟨rfl, rfl, Or.inl q2149⟩⟩, (fun _ h => nomatch h)⟩)⟩)⟩)⟩)
def IK49 : List (Nat × Nat × (MI × Nat)) := IK49_0
theorem IK49_ok (X : XT) : ∀ r ∈ IK49, IS (mkG X) (cn 49) r.1 r.2.2.1 r.2.2.2 := IK49_0_ok X
def IK45_0 : List (Nat × Nat × (MI × Nat)) := [(1, 0, (mJ14_init_4, 4))]
theorem IK45_0_ok (X : XT) : ∀ r ∈ IK45_0, IS (mkG X) (cn 45) r.1 r.2.2.1 r.2.2.2 := (List.forall_mem_cons.mpr ⟨⟨kJ14_init_4, q1362, rfl, rfl, Or.inl ⟨rfl, rfl, Or.inl q1361⟩⟩, (fun _ h => nomatch h)⟩)
def IK45 : List (Nat × Nat × (MI × Nat)) := IK45_0
theorem IK45_ok (X : XT) : ∀ r ∈ IK45, IS (mkG X) (cn 45) r.1 r.2.2.1 r.2.2.2 := IK45_0_ok X
def IK46_0 : List (Nat × Nat × (MI × Nat)) := [(3, 0, (mJ27_init, 0)), (26, 0, (mJ3_init, 0))]
theorem IK46_0_ok (X : XT) : ∀ r ∈ IK46_0, IS (mkG X) (cn 46) r.1 r.2.2.1 r.2.2.2 := (List.forall_mem_cons.mpr ⟨⟨kJ27_init, q1388, rfl, rfl, Or.inl ⟨rfl, rfl, Or.inl q1387⟩⟩, (List.forall_mem_cons.mpr ⟨⟨kJ3_init, q158, rfl, rfl, Or.inl ⟨rfl, rfl, Or.inl q2005⟩⟩, (fun _ h => nomatch h)⟩)⟩)
def IK46 : List (Nat × Nat × (MI × Nat)) := IK46_0
theorem IK46_ok (X : XT) : ∀ r ∈ IK46, IS (mkG X) (cn 46) r.1 r.2.2.1 r.2.2.2 := IK46_0_ok X
def IK40_0 : List (Nat × Nat × (MI × Nat)) := [(11, 0, (mJ7_init, 0)), (27, 0, (mX3_init, 0)), (48, 0, (mX3_init_2, 1)), (53, 0, (mX5_init, 2)), (127, 0, (mX5_init_2, 3))]
theorem IK40_0_ok (X : XT) : ∀ r ∈ IK40_0, IS (mkG X) (cn 40) r.1 r.2.2.1 r.2.2.2 := (List.forall_mem_cons.mpr ⟨⟨kJ7_init, q197, rfl, rfl, Or.inl ⟨rfl, rfl, Or.inl q196⟩⟩, (List.forall_mem_cons.mpr ⟨⟨kX3_init, q227, rfl, rfl, Or.inl ⟨rfl, rfl, Or.inl q226⟩⟩, (List.forall_mem_cons.mpr ⟨⟨kX3_init_2, q1091, rfl, rfl, Or.inl ⟨rfl, rfl, Or.inl q1090⟩⟩, (List.forall_mem_cons.mpr ⟨⟨kX5_init, q1098, rfl, rfl, Or.inl ⟨rfl, rfl, Or.inl q1097⟩⟩, (List.forall_mem_cons.mpr ⟨⟨kX5_init_2, q1101, rfl, rfl, Or.inl ⟨rfl, rfl, Or.inl q1377⟩⟩, (fun _ h => nomatch h)⟩)⟩)⟩)⟩)⟩)
def IK40 : List (Nat × Nat × (MI × Nat)) := IK40_0
theorem IK40_ok (X : XT) : ∀ r ∈ IK40, IS (mkG X) (cn 40) r.1 r.2.2.1 r.2.2.2 := IK40_0_ok X
def IK43_0 : List (Nat × Nat × (MI × Nat)) := [(17, 0, (mJ7_init, 0)), (33, 0, (mX5_init_2, 3)), (79, 0, (mX9_init, 2))]
theorem IK43_0_ok (X : XT) : ∀ r ∈ IK43_0, IS (mkG X) (cn 43) r.1 r.2.2.1 r.2.2.2 := (List.forall_mem_cons.mpr ⟨⟨kJ7_init, q197, rfl, rfl, Or.inl ⟨rfl, rfl, Or.inl q1105⟩⟩, (List.forall_mem_cons.mpr ⟨⟨kX5_init_2, q1101, rfl, rfl, Or.inl ⟨rfl, rfl, Or.inl q1100⟩⟩, (List.forall_mem_cons.mpr ⟨⟨kX9_init, q1452, rfl, rfl, Or.inl ⟨rfl, rfl, Or.inl q1451⟩⟩, (fun _ h => nomatch h)⟩)⟩)⟩)
def IK43 : List (Nat × Nat × (MI × Nat)) := IK43_0
theorem IK43_ok (X : XT) : ∀ r ∈ IK43, IS (mkG X) (cn 43) r.1 r.2.2.1 r.2.2.2 := IK43_0_ok X
def IK41_0 : List (Nat × Nat × (MI × Nat)) := [(19, 0, (mX3_init, 0))]
theorem IK41_0_ok (X : XT) : ∀ r ∈ IK41_0, IS (mkG X) (cn 41) r.1 r.2.2.1 r.2.2.2 := (List.forall_mem_cons.mpr ⟨⟨kX3_init, q227, rfl, rfl, Or.inl ⟨rfl, rfl, Or.inl q1093⟩⟩, (fun _ h => nomatch h)⟩)
def IK41 : List (Nat × Nat × (MI × Nat)) := IK41_0
theorem IK41_ok (X : XT) : ∀ r ∈ IK41, IS (mkG X) (cn 41) r.1 r.2.2.1 r.2.2.2 := IK41_0_ok X
def IK47_0 : List (Nat × Nat × (MI × Nat)) := [(9, 0, (mX9_init_2, 4))]
theorem IK47_0_ok (X : XT) : ∀ r ∈ IK47_0, IS (mkG X) (cn 47) r.1 r.2.2.1 r.2.2.2 := (List.forall_mem_cons.mpr ⟨⟨kX9_init_2, q1457, rfl, rfl, Or.inl ⟨rfl, rfl, Or.inl q1456⟩⟩, (fun _ h => nomatch h)⟩)
def IK47 : List (Nat × Nat × (MI × Nat)) := IK47_0
theorem IK47_ok (X : XT) : ∀ r ∈ IK47, IS (mkG X) (cn 47) r.1 r.2.2.1 r.2.2.2 := IK47_0_ok X
def IK38_0 : List (Nat × Nat × (MI × Nat)) := [(116, 0, (mX1_init, 0)), (119, 0, (mX4_init, 0))]
theorem IK38_0_ok (X : XT) : ∀ r ∈ IK38_0, IS (mkG X) (cn 38) r.1 r.2.2.1 r.2.2.2 := (List.forall_mem_cons.mpr ⟨⟨kX1_init, q129, rfl, rfl, Or.inl ⟨rfl, rfl, Or.inl q128⟩⟩, (List.forall_mem_cons.mpr ⟨⟨kX4_init, q2387, rfl, rfl, Or.inl ⟨rfl, rfl, Or.inl q2386⟩⟩, (fun _ h => nomatch h)⟩)⟩)
def IK38 : List (Nat × Nat × (MI × Nat)) := IK38_0
theorem IK38_ok (X : XT) : ∀ r ∈ IK38, IS (mkG X) (cn 38) r.1 r.2.2.1 r.2.2.2 := IK38_0_ok X
def IK30_0 : List (Nat × Nat × (MI × Nat)) := [(12, 0, (mJ3_init, 0))]
theorem IK30_0_ok (X : XT) : ∀ r ∈ IK30_0, IS (mkG X) (cn 30) r.1 r.2.2.1 r.2.2.2 := (List.forall_mem_cons.mpr ⟨⟨kJ3_init, q158, rfl, rfl, Or.inl ⟨rfl, rfl, Or.inl q2318⟩⟩, (fun _ h => nomatch h)⟩)
def IK30 : List (Nat × Nat × (MI × Nat)) := IK30_0
theorem IK30_ok (X : XT) : ∀ r ∈ IK30, IS (mkG X) (cn 30) r.1 r.2.2.1 r.2.2.2 := IK30_0_ok X
def IK14_0 : List (Nat × Nat × (MI × Nat)) := [(1, 0, (mJ13_init, 0)), (7, 0, (mJ13_init_2, 1)), (13, 0, (mJ13_init_3, 1)), (16, 0, (mJ13_init_4, 4))]
theorem IK14_0_ok (X : XT) : ∀ r ∈ IK14_0, IS (mkG X) (cn 14) r.1 r.2.2.1 r.2.2.2 := (List.forall_mem_cons.mpr ⟨⟨kJ13_init, q538, rfl, rfl, Or.inl ⟨rfl, rfl, Or.inl q950⟩⟩, (List.forall_mem_cons.mpr ⟨⟨kJ13_init_2, q762, rfl, rfl, Or.inl ⟨rfl, rfl, Or.inl q761⟩⟩, (List.forall_mem_cons.mpr ⟨⟨kJ13_init_3, q1013, rfl, rfl, Or.inl ⟨rfl, rfl, Or.inl q1012⟩⟩, (List.forall_mem_cons.mpr ⟨⟨kJ13_init_4, q1365, rfl, rfl, Or.inl ⟨rfl, rfl, Or.inl q1364⟩⟩, (fun _ h => nomatch h)⟩)⟩)⟩)⟩)
def IK14 : List (Nat × Nat × (MI × Nat)) := IK14_0
theorem IK14_ok (X : XT) : ∀ r ∈ IK14, IS (mkG X) (cn 14) r.1 r.2.2.1 r.2.2.2 := IK14_0_ok X
def IK20_0 : List (Nat × Nat × (MI × Nat)) := [(199, 0, (mJ20_init, 1))]
theorem IK20_0_ok (X : XT) : ∀ r ∈ IK20_0, IS (mkG X) (cn 20) r.1 r.2.2.1 r.2.2.2 := (List.forall_mem_cons.mpr ⟨⟨kJ20_init, q1942, rfl, rfl, Or.inl ⟨rfl, rfl, Or.inl q1941⟩⟩, (fun _ h => nomatch h)⟩)
def IK20 : List (Nat × Nat × (MI × Nat)) := IK20_0
theorem IK20_ok (X : XT) : ∀ r ∈ IK20, IS (mkG X) (cn 20) r.1 r.2.2.1 r.2.2.2 := IK20_0_ok X
def IK15_0 : List (Nat × Nat × (MI × Nat)) := [(1, 0, (mJ14_init_2, 0)), (7, 0, (mJ14_init, 1)), (13, 0, (mJ14_init_3, 1))]
theorem IK15_0_ok (X : XT) : ∀ r ∈ IK15_0, IS (mkG X) (cn 15) r.1 r.2.2.1 r.2.2.2 := (List.forall_mem_cons.mpr ⟨⟨kJ14_init_2, q948, rfl, rfl, Or.inl ⟨rfl, rfl, Or.inl q947⟩⟩, (List.forall_mem_cons.mpr ⟨⟨kJ14_init, q759, rfl, rfl, Or.inl ⟨rfl, rfl, Or.inl q758⟩⟩, (List.forall_mem_cons.mpr ⟨⟨kJ14_init_3, q1010, rfl, rfl, Or.inl ⟨rfl, rfl, Or.inl q1009⟩⟩, (fun _ h => nomatch h)⟩)⟩)⟩)
def IK15 : List (Nat × Nat × (MI × Nat)) := IK15_0
theorem IK15_ok (X : XT) : ∀ r ∈ IK15, IS (mkG X) (cn 15) r.1 r.2.2.1 r.2.2.2 := IK15_0_ok X
def IK4_0 : List (Nat × Nat × (MI × Nat)) := [(489, 0, (mJ4_init_2, 2))]
theorem IK4_0_ok (X : XT) : ∀ r ∈ IK4_0, IS (mkG X) (cn 4) r.1 r.2.2.1 r.2.2.2 := (List.forall_mem_cons.mpr ⟨⟨kJ4_init_2, q711, rfl, rfl, Or.inl ⟨rfl, rfl, Or.inl q710⟩⟩, (fun _ h => nomatch h)⟩)
def IK4 : List (Nat × Nat × (MI × Nat)) := IK4_0
theorem IK4_ok (X : XT) : ∀ r ∈ IK4, IS (mkG X) (cn 4) r.1 r.2.2.1 r.2.2.2 := IK4_0_ok X
def IK3_0 : List (Nat × Nat × (MI × Nat)) := [(1, 0, (mJ2_init, 1)), (29, 0, (mJ2_append, 1)), (50, 0, (mJ2_append_3, 1)), (53, 0, (mJ2_append_2, 1)), (137, 0, (mJ4_init, 1)), (329, 0, (mJ2_charAt, 1)), (333, 0, (mJ2_setLength, 1)), (343, 0, (mJ2_length, 0))]
theorem IK3_0_ok (X : XT) : ∀ r ∈ IK3_0, IS (mkG X) (cn 3) r.1 r.2.2.1 r.2.2.2 := (List.forall_mem_cons.mpr ⟨⟨kJ2_init, q161, rfl, rfl, Or.inl ⟨rfl, rfl, Or.inl q160⟩⟩, (List.forall_mem_cons.mpr ⟨⟨kJ2_append, q575, rfl, rfl, Or.inr ⟨by decide +kernel, q574, q2809, q186⟩⟩, (List.forall_mem_cons.mpr ⟨⟨kJ2_append_3, q1992, rfl, rfl, Or.inr ⟨by decide +kernel, q1991, q2826, q186⟩⟩, (List.forall_mem_cons.mpr ⟨⟨kJ2_append_2, q680, rfl, rfl, Or.inr ⟨by decide +kernel, q679, q2816, q186⟩⟩, (List.forall_mem_cons.mpr ⟨⟨kJ4_init, q708, rfl, rfl, Or.inl ⟨rfl, rfl, Or.inl q707⟩⟩, (List.forall_mem_cons.mpr ⟨⟨kJ2_charAt, q2049, rfl, rfl, Or.inr ⟨by decide +kernel, q2048, q2827, q186⟩⟩, (List.forall_mem_cons.mpr ⟨⟨kJ2_setLength, q2280, rfl, rfl, Or.inr ⟨by decide +kernel, q2279, q2830, q186⟩⟩, (List.forall_mem_cons.mpr ⟨⟨kJ2_length, q720, rfl, rfl, Or.inr ⟨by decide +kernel, q725, q721, q186⟩⟩, (fun _ h => nomatch h)⟩)⟩)⟩)⟩)⟩)⟩)⟩)⟩)
def IK3 : List (Nat × Nat × (MI × Nat)) := IK3_0
theorem IK3_ok (X : XT) : ∀ r ∈ IK3, IS (mkG X) (cn 3) r.1 r.2.2.1 r.2.2.2 := IK3_0_ok X
def IK34_0 : List (Nat × Nat × (MI × Nat)) := [(12, 0, (mJ3_init, 0))]
theorem IK34_0_ok (X : XT) : ∀ r ∈ IK34_0, IS (mkG X) (cn 34) r.1 r.2.2.1 r.2.2.2 := (List.forall_mem_cons.mpr ⟨⟨kJ3_init, q158, rfl, rfl, Or.inl ⟨rfl, rfl, Or.inl q2288⟩⟩, (fun _ h => nomatch h)⟩)
def IK34 : List (Nat × Nat × (MI × Nat)) := IK34_0
theorem IK34_ok (X : XT) : ∀ r ∈ IK34, IS (mkG X) (cn 34) r.1 r.2.2.1 r.2.2.2 := IK34_0_ok X
def IK18_0 : List (Nat × Nat × (MI × Nat)) := [(112, 0, (mJ4_init_3, 2))]
theorem IK18_0_ok (X : XT) : ∀ r ∈ IK18_0, IS (mkG X) (cn 18) r.1 r.2.2.1 r.2.2.2 := (List.forall_mem_cons.mpr ⟨⟨kJ4_init_3, q2250, rfl, rfl, Or.inl ⟨rfl, rfl, Or.inl q2249⟩⟩, (fun _ h => nomatch h)⟩)
def IK18 : List (Nat × Nat × (MI × Nat)) := IK18_0
theorem IK18_ok (X : XT) : ∀ r ∈ IK18, IS (mkG X) (cn 18) r.1 r.2.2.1 r.2.2.2 := IK18_0_ok X
def IK5_0 : List (Nat × Nat × (MI × Nat)) := [(263, 0, (mJ4_init_3, 2))]
theorem IK5_0_ok (X : XT) : ∀ r ∈ IK5_0, IS (mkG X) (cn 5) r.1 r.2.2.1 r.2.2.2 := (List.forall_mem_cons.mpr ⟨⟨kJ4_init_3, q2250, rfl, rfl, Or.inl ⟨rfl, rfl, Or.inl q2260⟩⟩, (fun _ h => nomatch h)⟩)
def IK5 : List (Nat × Nat × (MI × Nat)) := IK5_0
theorem IK5_ok (X : XT) : ∀ r ∈ IK5, IS (mkG X) (cn 5) r.1 r.2.2.1 r.2.2.2 := IK5_0_ok X
def IK13_0 : List (Nat × Nat × (MI × Nat)) := [(46, 0, (mJ3_init, 0))]
theorem IK13_0_ok (X : XT) : ∀ r ∈ IK13_0, IS (mkG X) (cn 13) r.1 r.2.2.1 r.2.2.2 := (List.forall_mem_cons.mpr ⟨⟨kJ3_init, q158, rfl, rfl, Or.inl ⟨rfl, rfl, Or.inl q1059⟩⟩, (fun _ h => nomatch h)⟩)
def IK13 : List (Nat × Nat × (MI × Nat)) := IK13_0
theorem IK13_ok (X : XT) : ∀ r ∈ IK13, IS (mkG X) (cn 13) r.1 r.2.2.1 r.2.2.2 := IK13_0_ok X
def IK6_0 : List (Nat × Nat × (MI × Nat)) := [(1, 0, (mJ0_init, 0))]
theorem IK6_0_ok (X : XT) : ∀ r ∈ IK6_0, IS (mkG X) (cn 6) r.1 r.2.2.1 r.2.2.2 := (List.forall_mem_cons.mpr ⟨⟨kJ0_init, q140, rfl, rfl, Or.inl ⟨rfl, rfl, Or.inl q202⟩⟩, (fun _ h => nomatch h)⟩)
def IK6 : List (Nat × Nat × (MI × Nat)) := IK6_0
theorem IK6_ok (X : XT) : ∀ r ∈ IK6, IS (mkG X) (cn 6) r.1 r.2.2.1 r.2.2.2 := IK6_0_ok X
def IK31_0 : List (Nat × Nat × (MI × Nat)) := [(1, 0, (mJ6_init, 0))]
theorem IK31_0_ok (X : XT) : ∀ r ∈ IK31_0, IS (mkG X) (cn 31) r.1 r.2.2.1 r.2.2.2 := (List.forall_mem_cons.mpr ⟨⟨kJ6_init, q200, rfl, rfl, Or.inl ⟨rfl, rfl, Or.inl q1908⟩⟩, (fun _ h => nomatch h)⟩)
def IK31 : List (Nat × Nat × (MI × Nat)) := IK31_0
theorem IK31_ok (X : XT) : ∀ r ∈ IK31, IS (mkG X) (cn 31) r.1 r.2.2.1 r.2.2.2 := IK31_0_ok X
def IK1_0 : List (Nat × Nat × (MI × Nat)) := [(42, 0, (mJ0_init, 0))]
theorem IK1_0_ok (X : XT) : ∀ r ∈ IK1_0, IS (mkG X) (cn 1) r.1 r.2.2.1 r.2.2.2 := (List.forall_mem_cons.mpr ⟨⟨kJ0_init, q140, rfl, rfl, Or.inl ⟨rfl, rfl, Or.inl q139⟩⟩, (fun _ h => nomatch h)⟩)
def IK1 : List (Nat × Nat × (MI × Nat)) := IK1_0
theorem IK1_ok (X : XT) : ∀ r ∈ IK1, IS (mkG X) (cn 1) r.1 r.2.2.1 r.2.2.2 := IK1_0_ok X
def IK7_0 : List (Nat × Nat × (MI × Nat)) := [(1, 0, (mJ6_init, 0)), (22, 0, (mJ3_init, 0)), (269, 0, (mJ12_init, 1))]
theorem IK7_0_ok (X : XT) : ∀ r ∈ IK7_0, IS (mkG X) (cn 7) r.1 r.2.2.1 r.2.2.2 := (List.forall_mem_cons.mpr ⟨⟨kJ6_init, q200, rfl, rfl, Or.inl ⟨rfl, rfl, Or.inl q199⟩⟩, (List.forall_mem_cons.mpr ⟨⟨kJ3_init, q158, rfl, rfl, Or.inl ⟨rfl, rfl, Or.inl q568⟩⟩, (List.forall_mem_cons.mpr ⟨⟨kJ12_init, q476, rfl, rfl, Or.inl ⟨rfl, rfl, Or.inl q475⟩⟩, (fun _ h => nomatch h)⟩)⟩)⟩)
def IK7 : List (Nat × Nat × (MI × Nat)) := IK7_0
theorem IK7_ok (X : XT) : ∀ r ∈ IK7, IS (mkG X) (cn 7) r.1 r.2.2.1 r.2.2.2 := IK7_0_ok X
def IK23_0 : List (Nat × Nat × (MI × Nat)) := [(7, 0, (mJ12_init, 1))]
theorem IK23_0_ok (X : XT) : ∀ r ∈ IK23_0, IS (mkG X) (cn 23) r.1 r.2.2.1 r.2.2.2 := (List.forall_mem_cons.mpr ⟨⟨kJ12_init, q476, rfl, rfl, Or.inl ⟨rfl, rfl, Or.inl q814⟩⟩, (fun _ h => nomatch h)⟩)
def IK23 : List (Nat × Nat × (MI × Nat)) := IK23_0
theorem IK23_ok (X : XT) : ∀ r ∈ IK23, IS (mkG X) (cn 23) r.1 r.2.2.1 r.2.2.2 := IK23_0_ok X
def IK10_0 : List (Nat × Nat × (MI × Nat)) := [(47, 0, (mJ3_init, 0))]
theorem IK10_0_ok (X : XT) : ∀ r ∈ IK10_0, IS (mkG X) (cn 10) r.1 r.2.2.1 r.2.2.2 := (List.forall_mem_cons.mpr ⟨⟨kJ3_init, q158, rfl, rfl, Or.inl ⟨rfl, rfl, Or.inl q747⟩⟩, (fun _ h => nomatch h)⟩)
def IK10 : List (Nat × Nat × (MI × Nat)) := IK10_0
theorem IK10_ok (X : XT) : ∀ r ∈ IK10, IS (mkG X) (cn 10) r.1 r.2.2.1 r.2.2.2 := IK10_0_ok X
def IK32_0 : List (Nat × Nat × (MI × Nat)) := [(1, 0, (mJ31_init, 0)), (24, 0, (mJ11_init, 3)), (99, 0, (mJ3_init, 0)), (152, 0, (mJ24_init, 2))]
theorem IK32_0_ok (X : XT) : ∀ r ∈ IK32_0, IS (mkG X) (cn 32) r.1 r.2.2.1 r.2.2.2 := (List.forall_mem_cons.mpr ⟨⟨kJ31_init, q1906, rfl, rfl, Or.inl ⟨rfl, rfl, Or.inl q1905⟩⟩, (List.forall_mem_cons.mpr ⟨⟨kJ11_init, q350, rfl, rfl, Or.inl ⟨rfl, rfl, Or.inl q349⟩⟩, (List.forall_mem_cons.mpr ⟨⟨kJ3_init, q158, rfl, rfl, Or.inl ⟨rfl, rfl, Or.inl q841⟩⟩, (List.forall_mem_cons.mpr ⟨⟨kJ24_init, q851, rfl, rfl, Or.inl ⟨rfl, rfl, Or.inl q850⟩⟩, (fun _ h => nomatch h)⟩)⟩)⟩)⟩)
def IK32 : List (Nat × Nat × (MI × Nat)) := IK32_0
theorem IK32_ok (X : XT) : ∀ r ∈ IK32, IS (mkG X) (cn 32) r.1 r.2.2.1 r.2.2.2 := IK32_0_ok X
def IK8_0 : List (Nat × Nat × (MI × Nat)) := [(91, 0, (mJ3_init, 0))]
theorem IK8_0_ok (X : XT) : ∀ r ∈ IK8_0, IS (mkG X) (cn 8) r.1 r.2.2.1 r.2.2.2 := (List.forall_mem_cons.mpr ⟨⟨kJ3_init, q158, rfl, rfl, Or.inl ⟨rfl, rfl, Or.inl q1302⟩⟩, (fun _ h => nomatch h)⟩)
def IK8 : List (Nat × Nat × (MI × Nat)) := IK8_0
theorem IK8_ok (X : XT) : ∀ r ∈ IK8, IS (mkG X) (cn 8) r.1 r.2.2.1 r.2.2.2 := IK8_0_ok X
def IKT : Nat → List (Nat × Nat × (MI × Nat))
  | 39 => IK39
  | 44 => IK44
  | 50 => IK50
  | 49 => IK49
  | 45 => IK45
  | 46 => IK46
  | 40 => IK40
  | 43 => IK43
  | 41 => IK41
  | 47 => IK47
  | 38 => IK38
  | 30 => IK30
  | 14 => IK14
  | 20 => IK20
  | 15 => IK15
  | 4 => IK4
  | 3 => IK3
  | 34 => IK34
  | 18 => IK18
  | 5 => IK5
  | 13 => IK13
  | 6 => IK6
  | 31 => IK31
  | 1 => IK1
  | 7 => IK7
  | 23 => IK23
  | 10 => IK10
  | 32 => IK32
  | 8 => IK8
  | _ => []
def IK (o i c : Nat) : Option ((MI × Nat)) := lk (IKT o) i c
theorem IK_ok (X : XT) (o : Nat) : ∀ r ∈ IKT o, IS (mkG X) (cn o) r.1 r.2.2.1 r.2.2.2 := by
  unfold IKT
  split
  · exact IK39_ok X
  · exact IK44_ok X
  · exact IK50_ok X
  · exact IK49_ok X
  · exact IK45_ok X
  · exact IK46_ok X
  · exact IK40_ok X
  · exact IK43_ok X
  · exact IK41_ok X
  · exact IK47_ok X
  · exact IK38_ok X
  · exact IK30_ok X
  · exact IK14_ok X
  · exact IK20_ok X
  · exact IK15_ok X
  · exact IK4_ok X
  · exact IK3_ok X
  · exact IK34_ok X
  · exact IK18_ok X
  · exact IK5_ok X
  · exact IK13_ok X
  · exact IK6_ok X
  · exact IK31_ok X
  · exact IK1_ok X
  · exact IK7_ok X
  · exact IK23_ok X
  · exact IK10_ok X
  · exact IK32_ok X
  · exact IK8_ok X
  · exact fun _ h => nomatch h
theorem ik_39_18_0 : IK 39 18 0 = some ((mX7_init, 2)) := rfl
theorem ik_39_28_0 : IK 39 28 0 = some ((mJ1_init, 0)) := rfl
theorem ik_39_35_0 : IK 39 35 0 = some ((mJ3_init, 0)) := rfl
theorem ik_39_42_0 : IK 39 42 0 = some ((mX2_init, 0)) := rfl
theorem ik_39_57_0 : IK 39 57 0 = some ((mX2_init_2, 1)) := rfl
theorem ik_39_89_0 : IK 39 89 0 = some ((mX6_init, 2)) := rfl
theorem ik_39_265_0 : IK 39 265 0 = some ((mX9_init, 2)) := rfl
theorem ik_39_274_0 : IK 39 274 0 = some ((mX10_init, 4)) := rfl
theorem ik_39_286_0 : IK 39 286 0 = some ((mJ32_init, 0)) := rfl
theorem ik_39_380_0 : IK 39 380 0 = some ((mX11_init, 1)) := rfl
theorem ik_44_21_0 : IK 44 21 0 = some ((mX8_init, 4)) := rfl
theorem ik_50_1_0 : IK 50 1 0 = some ((mJ14_init_4, 4)) := rfl
theorem ik_49_43_0 : IK 49 43 0 = some ((mX12_init, 1)) := rfl
theorem ik_49_54_0 : IK 49 54 0 = some ((mJ3_init, 0)) := rfl
theorem ik_49_100_0 : IK 49 100 0 = some ((mX6_init, 2)) := rfl
theorem ik_49_105_0 : IK 49 105 0 = some ((mJ32_init, 0)) := rfl
theorem ik_45_1_0 : IK 45 1 0 = some ((mJ14_init_4, 4)) := rfl
theorem ik_46_3_0 : IK 46 3 0 = some ((mJ27_init, 0)) := rfl
theorem ik_46_26_0 : IK 46 26 0 = some ((mJ3_init, 0)) := rfl
theorem ik_40_11_0 : IK 40 11 0 = some ((mJ7_init, 0)) := rfl
theorem ik_40_27_0 : IK 40 27 0 = some ((mX3_init, 0)) := rfl
theorem ik_40_48_0 : IK 40 48 0 = some ((mX3_init_2, 1)) := rfl
theorem ik_40_53_0 : IK 40 53 0 = some ((mX5_init, 2)) := rfl
theorem ik_40_127_0 : IK 40 127 0 = some ((mX5_init_2, 3)) := rfl
theorem ik_43_17_0 : IK 43 17 0 = some ((mJ7_init, 0)) := rfl
theorem ik_43_33_0 : IK 43 33 0 = some ((mX5_init_2, 3)) := rfl
theorem ik_43_79_0 : IK 43 79 0 = some ((mX9_init, 2)) := rfl
theorem ik_41_19_0 : IK 41 19 0 = some ((mX3_init, 0)) := rfl
theorem ik_47_9_0 : IK 47 9 0 = some ((mX9_init_2, 4)) := rfl
theorem ik_38_116_0 : IK 38 116 0 = some ((mX1_init, 0)) := rfl
theorem ik_38_119_0 : IK 38 119 0 = some ((mX4_init, 0)) := rfl
theorem ik_30_12_0 : IK 30 12 0 = some ((mJ3_init, 0)) := rfl
theorem ik_14_1_0 : IK 14 1 0 = some ((mJ13_init, 0)) := rfl
theorem ik_14_7_0 : IK 14 7 0 = some ((mJ13_init_2, 1)) := rfl
theorem ik_14_13_0 : IK 14 13 0 = some ((mJ13_init_3, 1)) := rfl
theorem ik_14_16_0 : IK 14 16 0 = some ((mJ13_init_4, 4)) := rfl
theorem ik_20_199_0 : IK 20 199 0 = some ((mJ20_init, 1)) := rfl
theorem ik_15_1_0 : IK 15 1 0 = some ((mJ14_init_2, 0)) := rfl
theorem ik_15_7_0 : IK 15 7 0 = some ((mJ14_init, 1)) := rfl
theorem ik_15_13_0 : IK 15 13 0 = some ((mJ14_init_3, 1)) := rfl
theorem ik_4_489_0 : IK 4 489 0 = some ((mJ4_init_2, 2)) := rfl
theorem ik_3_1_0 : IK 3 1 0 = some ((mJ2_init, 1)) := rfl
theorem ik_3_29_0 : IK 3 29 0 = some ((mJ2_append, 1)) := rfl
theorem ik_3_50_0 : IK 3 50 0 = some ((mJ2_append_3, 1)) := rfl
theorem ik_3_53_0 : IK 3 53 0 = some ((mJ2_append_2, 1)) := rfl
theorem ik_3_137_0 : IK 3 137 0 = some ((mJ4_init, 1)) := rfl
theorem ik_3_329_0 : IK 3 329 0 = some ((mJ2_charAt, 1)) := rfl
theorem ik_3_333_0 : IK 3 333 0 = some ((mJ2_setLength, 1)) := rfl
theorem ik_3_343_0 : IK 3 343 0 = some ((mJ2_length, 0)) := rfl
theorem ik_34_12_0 : IK 34 12 0 = some ((mJ3_init, 0)) := rfl
theorem ik_18_112_0 : IK 18 112 0 = some ((mJ4_init_3, 2)) := rfl
theorem ik_5_263_0 : IK 5 263 0 = some ((mJ4_init_3, 2)) := rfl
theorem ik_13_46_0 : IK 13 46 0 = some ((mJ3_init, 0)) := rfl
theorem ik_6_1_0 : IK 6 1 0 = some ((mJ0_init, 0)) := rfl
theorem ik_31_1_0 : IK 31 1 0 = some ((mJ6_init, 0)) := rfl
theorem ik_1_42_0 : IK 1 42 0 = some ((mJ0_init, 0)) := rfl
theorem ik_7_1_0 : IK 7 1 0 = some ((mJ6_init, 0)) := rfl
theorem ik_7_22_0 : IK 7 22 0 = some ((mJ3_init, 0)) := rfl
theorem ik_7_269_0 : IK 7 269 0 = some ((mJ12_init, 1)) := rfl
theorem ik_23_7_0 : IK 23 7 0 = some ((mJ12_init, 1)) := rfl
theorem ik_10_47_0 : IK 10 47 0 = some ((mJ3_init, 0)) := rfl
theorem ik_32_1_0 : IK 32 1 0 = some ((mJ31_init, 0)) := rfl
theorem ik_32_24_0 : IK 32 24 0 = some ((mJ11_init, 3)) := rfl
theorem ik_32_99_0 : IK 32 99 0 = some ((mJ3_init, 0)) := rfl
theorem ik_32_152_0 : IK 32 152 0 = some ((mJ24_init, 2)) := rfl
theorem ik_8_91_0 : IK 8 91 0 = some ((mJ3_init, 0)) := rfl
def VK39_0 : List (Nat × Nat × (MI × Nat)) := [(60, 12, (mJ1_size, 0)), (64, 12, (mJ1_removeLast, 0)), (68, 12, (mJ1_push, 1)), (83, 0, (mX1_draft, 0)), (92, 5, (mX6_done, 1)), (96, 0, (mX1_replace, 2)), (100, 0, (mX1_refuse, 1)), (116, 0, (mX1_change, 2)), (126, 0, (mX1_at, 1)), (169, 7, (mX8_kind, 0)), (172, 7, (mX8_town, 0)), (175, 7, (mX8_day, 0)), (178, 7, (mX8_many, 0)), (210, 8, (mX9_iterator, 0)), (223, 0, (mX1_bookedIn, 3)), (235, 0, (mX1_townFor, 3)), (239, 2, (mX3_left, 2)), (247, 4, (mX5_isOnTheWay, 0)), (253, 4, (mX5_fault, 0)), (259, 4, (mX5_isOver, 0)), (262, 1, (mX2_live, 0)), (268, 1, (mX2_price, 1)), (277, 9, (mX10_look, 1)), (287, 17, (mJ32_size, 0)), (288, 17, (mJ32_get, 1)), (291, 20, (mJ20_intValue, 0)), (294, 0, (mX1_isAhead, 2)), (302, 17, (mJ32_add_2, 2)), (306, 13, (mJ3_append_2, 1)), (312, 14, (mJ4_charAt, 1))]
theorem VK39_0_ok (X : XT) : ∀ r ∈ VK39_0, VS (mkG X) (cn 39) r.1 r.2.1 r.2.2.1 r.2.2.2 := (List.forall_mem_cons.mpr ⟨Or.inl ⟨kJ1_size, q1513, rfl, _, rfl, Or.inl q2823, Or.inl q1620⟩, (List.forall_mem_cons.mpr ⟨Or.inl ⟨kJ1_removeLast, q1622, rfl, _, rfl, Or.inl q1623, Or.inl q1621⟩, (List.forall_mem_cons.mpr ⟨Or.inl ⟨kJ1_push, q1638, rfl, _, rfl, Or.inl q1639, Or.inl q1637⟩, (List.forall_mem_cons.mpr ⟨Or.inl ⟨kX1_draft, q459, rfl, _, rfl, Or.inl qs3, Or.inl q457⟩, (List.forall_mem_cons.mpr ⟨Or.inl ⟨kX6_done, q1248, rfl, _, rfl, Or.inl q1249, Or.inl q1247⟩, (List.forall_mem_cons.mpr ⟨Or.inl ⟨kX1_replace, q1618, rfl, _, rfl, Or.inl qs20, Or.inl q1616⟩, (List.forall_mem_cons.mpr ⟨Or.inl ⟨kX1_refuse, q1674, rfl, _, rfl, Or.inl qs23, Or.inl q1672⟩, (List.forall_mem_cons.mpr ⟨Or.inl ⟨kX1_change, q1231, rfl, _, rfl, Or.inl qs13, Or.inl q1229⟩, (List.forall_mem_cons.mpr ⟨Or.inl ⟨kX1_at, q1740, rfl, _, rfl, Or.inl qs24, Or.inl q1738⟩, (List.forall_mem_cons.mpr ⟨Or.inl ⟨kX8_kind, q1430, rfl, _, rfl, Or.inl q1431, Or.inl q1754⟩, (List.forall_mem_cons.mpr ⟨Or.inl ⟨kX8_town, q1422, rfl, _, rfl, Or.inl q1423, Or.inl q1755⟩, (List.forall_mem_cons.mpr ⟨Or.inl ⟨kX8_day, q1426, rfl, _, rfl, Or.inl q1427, Or.inl q1756⟩, (List.forall_mem_cons.mpr ⟨Or.inl ⟨kX8_many, q1434, rfl, _, rfl, Or.inl q1435, Or.inl q1757⟩, (List.forall_mem_cons.mpr ⟨Or.inl ⟨kX9_iterator, q1474, rfl, _, rfl, Or.inl q1475, Or.inl q1794⟩, (List.forall_mem_cons.mpr ⟨Or.inl ⟨kX1_bookedIn, q1785, rfl, _, rfl, Or.inl qs25, Or.inl q1783⟩, (List.forall_mem_cons.mpr ⟨Or.inl ⟨kX1_townFor, q1812, rfl, _, rfl, Or.inl qs26, Or.inl q1810⟩, (List.forall_mem_cons.mpr ⟨Or.inl ⟨kX3_left, q1576, rfl, _, rfl, Or.inl q1577, Or.inl q1815⟩, (List.forall_mem_cons.mpr ⟨Or.inl ⟨kX5_isOnTheWay, q1553, rfl, _, rfl, Or.inl q1554, Or.inl q1832⟩, (List.forall_mem_cons.mpr ⟨Or.inl ⟨kX5_fault, q1561, rfl, _, rfl, Or.inl q1562, Or.inl q1834⟩, (List.forall_mem_cons.mpr ⟨Or.inl ⟨kX5_isOver, q1613, rfl, _, rfl, Or.inl q1614, Or.inl q1844⟩, (List.forall_mem_cons.mpr ⟨Or.inl ⟨kX2_live, q1549, rfl, _, rfl, Or.inl q1550, Or.inl q1845⟩, (List.forall_mem_cons.mpr ⟨Or.inl ⟨kX2_price, q1582, rfl, _, rfl, Or.inl q1583, Or.inl q1855⟩, (List.forall_mem_cons.mpr ⟨Or.inl ⟨kX10_look, q1887, rfl, _, rfl, Or.inl q1888, Or.inl q1886⟩, (List.forall_mem_cons.mpr ⟨Or.inl ⟨kJ32_size, q898, rfl, _, rfl, Or.inl q2824, Or.inl q1921⟩, (List.forall_mem_cons.mpr ⟨Or.inl ⟨kJ32_get, q974, rfl, _, rfl, Or.inl q2825, Or.inl q1922⟩, (List.forall_mem_cons.mpr ⟨Or.inl ⟨kJ20_intValue, q1925, rfl, _, rfl, Or.inl q1926, Or.inl q1924⟩, (List.forall_mem_cons.mpr ⟨Or.inl ⟨kX1_isAhead, q1930, rfl, _, rfl, Or.inl qs27, Or.inl q1928⟩, (List.forall_mem_cons.mpr ⟨Or.inl ⟨kJ32_add_2, q1953, rfl, _, rfl, Or.inl q1954, Or.inl q1952⟩, (List.forall_mem_cons.mpr ⟨Or.inl ⟨kJ3_append_2, q676, rfl, _, rfl, Or.inl q677, Or.inl q1967⟩, (List.forall_mem_cons.mpr ⟨Or.inl ⟨kJ4_charAt, q1970, rfl, _, rfl, Or.inl q1971, Or.inl q1969⟩, (fun _ h => nomatch h)⟩)⟩)⟩)⟩)⟩)⟩)⟩)⟩)⟩)⟩)⟩)⟩)⟩)⟩)⟩)⟩)⟩)⟩)⟩)⟩)⟩)⟩)⟩)⟩)⟩)⟩)⟩)⟩)⟩)⟩)
def VK39_1 : List (Nat × Nat × (MI × Nat)) := [(318, 13, (mJ3_append_3, 1)), (321, 7, (mX8_written, 0)), (325, 13, (mJ3_append, 1)), (339, 1, (mX2_are, 1)), (360, 1, (mX2_open, 0)), (362, 1, (mX2_booked, 0)), (364, 13, (mJ3_length, 0)), (383, 10, (mX11_text, 0)), (387, 13, (mJ3_setLength, 1)), (395, 0, (mX1_taken, 0)), (402, 12, (mJ1_isEmpty, 0)), (403, 12, (mJ1_pop, 0)), (409, 12, (mJ1_clear, 0))]
theorem VK39_1_ok (X : XT) : ∀ r ∈ VK39_1, VS (mkG X) (cn 39) r.1 r.2.1 r.2.2.1 r.2.2.2 := (List.forall_mem_cons.mpr ⟨Or.inl ⟨kJ3_append_3, q1988, rfl, _, rfl, Or.inl q1989, Or.inl q1987⟩, (List.forall_mem_cons.mpr ⟨Or.inl ⟨kX8_written, q2001, rfl, _, rfl, Or.inl q2002, Or.inl q2000⟩, (List.forall_mem_cons.mpr ⟨Or.inl ⟨kJ3_append, q571, rfl, _, rfl, Or.inl q572, Or.inl q2015⟩, (List.forall_mem_cons.mpr ⟨Or.inl ⟨kX2_are, q1519, rfl, _, rfl, Or.inl q1520, Or.inl q2061⟩, (List.forall_mem_cons.mpr ⟨Or.inl ⟨kX2_open, q1537, rfl, _, rfl, Or.inl q1538, Or.inl q2062⟩, (List.forall_mem_cons.mpr ⟨Or.inl ⟨kX2_booked, q2064, rfl, _, rfl, Or.inl q2065, Or.inl q2063⟩, (List.forall_mem_cons.mpr ⟨Or.inl ⟨kJ3_length, q723, rfl, _, rfl, Or.inl q2828, Or.inl q2067⟩, (List.forall_mem_cons.mpr ⟨Or.inl ⟨kX11_text, q2145, rfl, _, rfl, Or.inl q2146, Or.inl q2144⟩, (List.forall_mem_cons.mpr ⟨Or.inl ⟨kJ3_setLength, q2276, rfl, _, rfl, Or.inl q2277, Or.inl q2275⟩, (List.forall_mem_cons.mpr ⟨Or.inl ⟨kX1_taken, q2128, rfl, _, rfl, Or.inl qs28, Or.inl q2126⟩, (List.forall_mem_cons.mpr ⟨Or.inl ⟨kJ1_isEmpty, q2352, rfl, _, rfl, Or.inl q2353, Or.inl q2351⟩, (List.forall_mem_cons.mpr ⟨Or.inl ⟨kJ1_pop, q2356, rfl, _, rfl, Or.inl q2357, Or.inl q2355⟩, (List.forall_mem_cons.mpr ⟨Or.inl ⟨kJ1_clear, q2378, rfl, _, rfl, Or.inl q2379, Or.inl q2377⟩, (fun _ h => nomatch h)⟩)⟩)⟩)⟩)⟩)⟩)⟩)⟩)⟩)⟩)⟩)⟩)⟩)
def VK39 : List (Nat × Nat × (MI × Nat)) := VK39_0 ++ VK39_1
def VK39a : List (Nat × Nat × (MI × Nat)) := VK39_0 ++ (VK39_1)
theorem VK39_ok (X : XT) : ∀ r ∈ VK39a, VS (mkG X) (cn 39) r.1 r.2.1 r.2.2.1 r.2.2.2 := List.forall_mem_append.mpr ⟨VK39_0_ok X, VK39_1_ok X⟩
def VK48_0 : List (Nat × Nat × (MI × Nat)) := [(50, 2, (mX3_left, 2))]
theorem VK48_0_ok (X : XT) : ∀ r ∈ VK48_0, VS (mkG X) (cn 48) r.1 r.2.1 r.2.2.1 r.2.2.2 := (List.forall_mem_cons.mpr ⟨Or.inl ⟨kX3_left, q1576, rfl, _, rfl, Or.inl q1577, Or.inl q1893⟩, (fun _ h => nomatch h)⟩)
def VK48 : List (Nat × Nat × (MI × Nat)) := VK48_0
theorem VK48_ok (X : XT) : ∀ r ∈ VK48, VS (mkG X) (cn 48) r.1 r.2.1 r.2.2.1 r.2.2.2 := VK48_0_ok X
def VK44_0 : List (Nat × Nat × (MI × Nat)) := [(24, 14, (mJ4_hashCode, 0)), (32, 14, (mJ4_equals, 1)), (54, 1, (mX2_plan, 1)), (60, 5, (mX6_step, 1)), (63, 1, (mX2_addStep, 2)), (67, 1, (mX2_start, 1)), (79, 4, (mX5_callBack, 0)), (82, 1, (mX2_shut, 2)), (85, 1, (mX2_dear, 2)), (88, 1, (mX2_pass, 1))]
theorem VK44_0_ok (X : XT) : ∀ r ∈ VK44_0, VS (mkG X) (cn 44) r.1 r.2.1 r.2.2.1 r.2.2.2 := (List.forall_mem_cons.mpr ⟨Or.inl ⟨kJ4_hashCode, q1252, rfl, _, rfl, Or.inl q1253, Or.inl q1251⟩, (List.forall_mem_cons.mpr ⟨Or.inl ⟨kJ4_equals, q1314, rfl, _, rfl, Or.inl q1315, Or.inl q1313⟩, (List.forall_mem_cons.mpr ⟨Or.inl ⟨kX2_plan, q1331, rfl, _, rfl, Or.inl q1332, Or.inl q1330⟩, (List.forall_mem_cons.mpr ⟨Or.inl ⟨kX6_step, q1380, rfl, _, rfl, Or.inl qs14, Or.inl q1378⟩, (List.forall_mem_cons.mpr ⟨Or.inl ⟨kX2_addStep, q1405, rfl, _, rfl, Or.inl q1406, Or.inl q1404⟩, (List.forall_mem_cons.mpr ⟨Or.inl ⟨kX2_start, q1491, rfl, _, rfl, Or.inl q1492, Or.inl q1490⟩, (List.forall_mem_cons.mpr ⟨Or.inl ⟨kX5_callBack, q1525, rfl, _, rfl, Or.inl q1526, Or.inl q1524⟩, (List.forall_mem_cons.mpr ⟨Or.inl ⟨kX2_shut, q1533, rfl, _, rfl, Or.inl q1534, Or.inl q1532⟩, (List.forall_mem_cons.mpr ⟨Or.inl ⟨kX2_dear, q1541, rfl, _, rfl, Or.inl q1542, Or.inl q1540⟩, (List.forall_mem_cons.mpr ⟨Or.inl ⟨kX2_pass, q1545, rfl, _, rfl, Or.inl q1546, Or.inl q1544⟩, (fun _ h => nomatch h)⟩)⟩)⟩)⟩)⟩)⟩)⟩)⟩)⟩)⟩)
def VK44 : List (Nat × Nat × (MI × Nat)) := VK44_0
theorem VK44_ok (X : XT) : ∀ r ∈ VK44, VS (mkG X) (cn 44) r.1 r.2.1 r.2.2.1 r.2.2.2 := VK44_0_ok X
def VK49_0 : List (Nat × Nat × (MI × Nat)) := [(23, 13, (mJ3_length, 0)), (29, 13, (mJ3_charAt, 1)), (37, 10, (mX11_isAt, 2)), (46, 10, (mX11_take, 2)), (55, 13, (mJ3_append, 1)), (59, 13, (mJ3_toString, 0)), (63, 14, (mJ4_contains, 1)), (69, 13, (mJ3_append_3, 1)), (72, 14, (mJ4_substring, 1)), (76, 10, (mX11_word, 0)), (81, 14, (mJ4_equals, 1)), (85, 10, (mX11_number, 2)), (89, 14, (mJ4_hashCode, 0)), (106, 10, (mX11_command, 0))]
theorem VK49_0_ok (X : XT) : ∀ r ∈ VK49_0, VS (mkG X) (cn 49) r.1 r.2.1 r.2.2.1 r.2.2.2 := (List.forall_mem_cons.mpr ⟨Or.inl ⟨kJ3_length, q723, rfl, _, rfl, Or.inl q2828, Or.inl q2206⟩, (List.forall_mem_cons.mpr ⟨Or.inl ⟨kJ3_charAt, q2045, rfl, _, rfl, Or.inl q2829, Or.inl q2207⟩, (List.forall_mem_cons.mpr ⟨Or.inl ⟨kX11_isAt, q2204, rfl, _, rfl, Or.inl qs31, Or.inl q2202⟩, (List.forall_mem_cons.mpr ⟨Or.inl ⟨kX11_take, q2231, rfl, _, rfl, Or.inl qs32, Or.inl q2229⟩, (List.forall_mem_cons.mpr ⟨Or.inl ⟨kJ3_append, q571, rfl, _, rfl, Or.inl q572, Or.inl q2162⟩, (List.forall_mem_cons.mpr ⟨Or.inl ⟨kJ3_toString, q702, rfl, _, rfl, Or.inl q703, Or.inl q2163⟩, (List.forall_mem_cons.mpr ⟨Or.inl ⟨kJ4_contains, q2165, rfl, _, rfl, Or.inl q2166, Or.inl q2164⟩, (List.forall_mem_cons.mpr ⟨Or.inl ⟨kJ3_append_3, q1988, rfl, _, rfl, Or.inl q1989, Or.inl q2209⟩, (List.forall_mem_cons.mpr ⟨Or.inl ⟨kJ4_substring, q2234, rfl, _, rfl, Or.inl q2235, Or.inl q2233⟩, (List.forall_mem_cons.mpr ⟨Or.inl ⟨kX11_word, q2156, rfl, _, rfl, Or.inl qs30, Or.inl q2154⟩, (List.forall_mem_cons.mpr ⟨Or.inl ⟨kJ4_equals, q1314, rfl, _, rfl, Or.inl q1315, Or.inl q2262⟩, (List.forall_mem_cons.mpr ⟨Or.inl ⟨kX11_number, q2265, rfl, _, rfl, Or.inl qs33, Or.inl q2263⟩, (List.forall_mem_cons.mpr ⟨Or.inl ⟨kJ4_hashCode, q1252, rfl, _, rfl, Or.inl q1253, Or.inl q2267⟩, (List.forall_mem_cons.mpr ⟨Or.inl ⟨kX11_command, q2152, rfl, _, rfl, Or.inl qs29, Or.inl q2150⟩, (fun _ h => nomatch h)⟩)⟩)⟩)⟩)⟩)⟩)⟩)⟩)⟩)⟩)⟩)⟩)⟩)⟩)
def VK49 : List (Nat × Nat × (MI × Nat)) := VK49_0
theorem VK49_ok (X : XT) : ∀ r ∈ VK49, VS (mkG X) (cn 49) r.1 r.2.1 r.2.2.1 r.2.2.2 := VK49_0_ok X
def VK46_0 : List (Nat × Nat × (MI × Nat)) := [(29, 14, (mJ4_charAt, 1)), (35, 13, (mJ3_append_3, 1)), (41, 13, (mJ3_append, 1)), (44, 13, (mJ3_append_2, 1)), (51, 13, (mJ3_toString, 0))]
theorem VK46_0_ok (X : XT) : ∀ r ∈ VK46_0, VS (mkG X) (cn 46) r.1 r.2.1 r.2.2.1 r.2.2.2 := (List.forall_mem_cons.mpr ⟨Or.inl ⟨kJ4_charAt, q1970, rfl, _, rfl, Or.inl q1971, Or.inl q2007⟩, (List.forall_mem_cons.mpr ⟨Or.inl ⟨kJ3_append_3, q1988, rfl, _, rfl, Or.inl q1989, Or.inl q2008⟩, (List.forall_mem_cons.mpr ⟨Or.inl ⟨kJ3_append, q571, rfl, _, rfl, Or.inl q572, Or.inl q2010⟩, (List.forall_mem_cons.mpr ⟨Or.inl ⟨kJ3_append_2, q676, rfl, _, rfl, Or.inl q677, Or.inl q2011⟩, (List.forall_mem_cons.mpr ⟨Or.inl ⟨kJ3_toString, q702, rfl, _, rfl, Or.inl q703, Or.inl q2014⟩, (fun _ h => nomatch h)⟩)⟩)⟩)⟩)⟩)
def VK46 : List (Nat × Nat × (MI × Nat)) := VK46_0
theorem VK46_ok (X : XT) : ∀ r ∈ VK46, VS (mkG X) (cn 46) r.1 r.2.1 r.2.2.1 r.2.2.2 := VK46_0_ok X
def VK40_0 : List (Nat × Nat × (MI × Nat)) := [(93, 7, (mX8_kind, 0)), (102, 7, (mX8_many, 0)), (105, 7, (mX8_town, 0)), (134, 7, (mX8_day, 0)), (140, 4, (mX5_add, 1)), (146, 4, (mX5_start, 0)), (149, 1, (mX2_are, 1)), (156, 1, (mX2_open, 0)), (159, 4, (mX5_isOnTheWay, 0)), (162, 4, (mX5_live, 0)), (165, 4, (mX5_isOver, 0)), (168, 1, (mX2_live, 0))]
theorem VK40_0_ok (X : XT) : ∀ r ∈ VK40_0, VS (mkG X) (cn 40) r.1 r.2.1 r.2.2.1 r.2.2.2 := (List.forall_mem_cons.mpr ⟨Or.inl ⟨kX8_kind, q1430, rfl, _, rfl, Or.inl q1431, Or.inl q1429⟩, (List.forall_mem_cons.mpr ⟨Or.inl ⟨kX8_many, q1434, rfl, _, rfl, Or.inl q1435, Or.inl q1433⟩, (List.forall_mem_cons.mpr ⟨Or.inl ⟨kX8_town, q1422, rfl, _, rfl, Or.inl q1423, Or.inl q1421⟩, (List.forall_mem_cons.mpr ⟨Or.inl ⟨kX8_day, q1426, rfl, _, rfl, Or.inl q1427, Or.inl q1425⟩, (List.forall_mem_cons.mpr ⟨Or.inl ⟨kX5_add, q1441, rfl, _, rfl, Or.inl q1442, Or.inl q1440⟩, (List.forall_mem_cons.mpr ⟨Or.inl ⟨kX5_start, q1495, rfl, _, rfl, Or.inl q1496, Or.inl q1494⟩, (List.forall_mem_cons.mpr ⟨Or.inl ⟨kX2_are, q1519, rfl, _, rfl, Or.inl q1520, Or.inl q1518⟩, (List.forall_mem_cons.mpr ⟨Or.inl ⟨kX2_open, q1537, rfl, _, rfl, Or.inl q1538, Or.inl q1536⟩, (List.forall_mem_cons.mpr ⟨Or.inl ⟨kX5_isOnTheWay, q1553, rfl, _, rfl, Or.inl q1554, Or.inl q1552⟩, (List.forall_mem_cons.mpr ⟨Or.inl ⟨kX5_live, q1557, rfl, _, rfl, Or.inl q1558, Or.inl q1556⟩, (List.forall_mem_cons.mpr ⟨Or.inl ⟨kX5_isOver, q1613, rfl, _, rfl, Or.inl q1614, Or.inl q1612⟩, (List.forall_mem_cons.mpr ⟨Or.inl ⟨kX2_live, q1549, rfl, _, rfl, Or.inl q1550, Or.inl q1548⟩, (fun _ h => nomatch h)⟩)⟩)⟩)⟩)⟩)⟩)⟩)⟩)⟩)⟩)⟩)⟩)
def VK40 : List (Nat × Nat × (MI × Nat)) := VK40_0
theorem VK40_ok (X : XT) : ∀ r ∈ VK40, VS (mkG X) (cn 40) r.1 r.2.1 r.2.2.1 r.2.2.2 := VK40_0_ok X
def VK43_0 : List (Nat × Nat × (MI × Nat)) := [(73, 4, (mX5_allowHow, 1)), (82, 8, (mX9_iterator, 0)), (98, 7, (mX8_isLike, 1)), (113, 4, (mX5_turn, 0)), (124, 8, (mX9_next_2, 0)), (132, 7, (mX8_town, 0)), (137, 7, (mX8_kind, 0)), (140, 7, (mX8_day, 0)), (143, 2, (mX3_left, 2)), (147, 7, (mX8_many, 0)), (154, 1, (mX2_price, 1)), (165, 2, (mX3_take, 2)), (169, 4, (mX5_finish, 0)), (175, 1, (mX2_earn, 1)), (181, 4, (mX5_fault, 0)), (190, 4, (mX5_book, 0)), (193, 4, (mX5_undoStep, 0))]
theorem VK43_0_ok (X : XT) : ∀ r ∈ VK43_0, VS (mkG X) (cn 43) r.1 r.2.1 r.2.2.1 r.2.2.2 := (List.forall_mem_cons.mpr ⟨Or.inl ⟨kX5_allowHow, q1445, rfl, _, rfl, Or.inl q1446, Or.inl q1444⟩, (List.forall_mem_cons.mpr ⟨Or.inl ⟨kX9_iterator, q1474, rfl, _, rfl, Or.inl q1475, Or.inl q1473⟩, (List.forall_mem_cons.mpr ⟨Or.inl ⟨kX8_isLike, q1483, rfl, _, rfl, Or.inl q1484, Or.inl q1482⟩, (List.forall_mem_cons.mpr ⟨Or.inl ⟨kX5_turn, q1530, rfl, _, rfl, Or.inl qs15, Or.inl q1528⟩, (List.forall_mem_cons.mpr ⟨Or.inl ⟨kX9_next_2, q925, rfl, _, rfl, Or.inl q926, Or.inl q1570⟩, (List.forall_mem_cons.mpr ⟨Or.inl ⟨kX8_town, q1422, rfl, _, rfl, Or.inl q1423, Or.inl q1571⟩, (List.forall_mem_cons.mpr ⟨Or.inl ⟨kX8_kind, q1430, rfl, _, rfl, Or.inl q1431, Or.inl q1573⟩, (List.forall_mem_cons.mpr ⟨Or.inl ⟨kX8_day, q1426, rfl, _, rfl, Or.inl q1427, Or.inl q1574⟩, (List.forall_mem_cons.mpr ⟨Or.inl ⟨kX3_left, q1576, rfl, _, rfl, Or.inl q1577, Or.inl q1575⟩, (List.forall_mem_cons.mpr ⟨Or.inl ⟨kX8_many, q1434, rfl, _, rfl, Or.inl q1435, Or.inl q1580⟩, (List.forall_mem_cons.mpr ⟨Or.inl ⟨kX2_price, q1582, rfl, _, rfl, Or.inl q1583, Or.inl q1581⟩, (List.forall_mem_cons.mpr ⟨Or.inl ⟨kX3_take, q1593, rfl, _, rfl, Or.inl q1594, Or.inl q1592⟩, (List.forall_mem_cons.mpr ⟨Or.inl ⟨kX5_finish, q1600, rfl, _, rfl, Or.inl qs17, Or.inl q1598⟩, (List.forall_mem_cons.mpr ⟨Or.inl ⟨kX2_earn, q1604, rfl, _, rfl, Or.inl qs18, Or.inr ⟨rfl, "TheatreSaga", (List.mem_of_getElem? (i := 57) rfl)⟩⟩, (List.forall_mem_cons.mpr ⟨Or.inl ⟨kX5_fault, q1561, rfl, _, rfl, Or.inl q1562, Or.inl q1560⟩, (List.forall_mem_cons.mpr ⟨Or.inl ⟨kX5_book, q1590, rfl, _, rfl, Or.inl qs16, Or.inl q1588⟩, (List.forall_mem_cons.mpr ⟨Or.inl ⟨kX5_undoStep, q1610, rfl, _, rfl, Or.inl qs19, Or.inl q1608⟩, (fun _ h => nomatch h)⟩)⟩)⟩)⟩)⟩)⟩)⟩)⟩)⟩)⟩)⟩)⟩)⟩)⟩)⟩)⟩)⟩)
def VK43 : List (Nat × Nat × (MI × Nat)) := VK43_0
theorem VK43_ok (X : XT) : ∀ r ∈ VK43, VS (mkG X) (cn 43) r.1 r.2.1 r.2.2.1 r.2.2.2 := VK43_0_ok X
def VK41_0 : List (Nat × Nat × (MI × Nat)) := [(37, 7, (mX8_kind, 0)), (43, 7, (mX8_day, 0))]
theorem VK41_0_ok (X : XT) : ∀ r ∈ VK41_0, VS (mkG X) (cn 41) r.1 r.2.1 r.2.2.1 r.2.2.2 := (List.forall_mem_cons.mpr ⟨Or.inl ⟨kX8_kind, q1430, rfl, _, rfl, Or.inl q1431, Or.inl q1596⟩, (List.forall_mem_cons.mpr ⟨Or.inl ⟨kX8_day, q1426, rfl, _, rfl, Or.inl q1427, Or.inl q1597⟩, (fun _ h => nomatch h)⟩)⟩)
def VK41 : List (Nat × Nat × (MI × Nat)) := VK41_0
theorem VK41_ok (X : XT) : ∀ r ∈ VK41, VS (mkG X) (cn 41) r.1 r.2.1 r.2.2.1 r.2.2.2 := VK41_0_ok X
def VK47_0 : List (Nat × Nat × (MI × Nat)) := [(34, 8, (mX9_hasNext, 0)), (48, 8, (mX9_next_2, 0))]
theorem VK47_0_ok (X : XT) : ∀ r ∈ VK47_0, VS (mkG X) (cn 47) r.1 r.2.1 r.2.2.1 r.2.2.2 := (List.forall_mem_cons.mpr ⟨Or.inl ⟨kX9_hasNext, q882, rfl, _, rfl, Or.inl q2817, Or.inl q928⟩, (List.forall_mem_cons.mpr ⟨Or.inl ⟨kX9_next_2, q925, rfl, _, rfl, Or.inl q926, Or.inl q924⟩, (fun _ h => nomatch h)⟩)⟩)
def VK47 : List (Nat × Nat × (MI × Nat)) := VK47_0
theorem VK47_ok (X : XT) : ∀ r ∈ VK47, VS (mkG X) (cn 47) r.1 r.2.1 r.2.2.1 r.2.2.2 := VK47_0_ok X
def VK38_0 : List (Nat × Nat × (MI × Nat)) := [(7, 0, (mX1_tour, 1)), (17, 0, (mX1_step, 5)), (23, 0, (mX1_start, 1)), (26, 0, (mX1_back, 1)), (29, 0, (mX1_tourOf, 2)), (33, 0, (mX1_stepOf, 3)), (37, 0, (mX1_shut, 2)), (41, 0, (mX1_dear, 2)), (44, 0, (mX1_townOf, 2)), (47, 0, (mX1_pass, 1)), (50, 0, (mX1_left, 3)), (53, 0, (mX1_leftAgain, 3)), (56, 0, (mX1_faultOf, 1)), (61, 0, (mX1_endsIn, 1)), (64, 0, (mX1_costs, 1)), (67, 0, (mX1_cheapest, 3)), (70, 0, (mX1_ranked, 1)), (73, 0, (mX1_line, 1)), (76, 0, (mX1_character, 1)), (80, 0, (mX1_number, 1)), (83, 0, (mX1_meanSteps, 0)), (89, 0, (mX1_failedShare, 0)), (93, 0, (mX1_feed, 1)), (99, 0, (mX1_read, 0)), (103, 0, (mX1_faultPosition, 0)), (106, 0, (mX1_refusal, 1)), (110, 0, (mX1_undo, 0)), (113, 0, (mX1_restoreSnapshot, 0)), (125, 3, (mX4_tour, 1)), (126, 3, (mX4_thrown, 0))]
theorem VK38_0_ok (X : XT) : ∀ r ∈ VK38_0, VS (mkG X) (cn 38) r.1 r.2.1 r.2.2.1 r.2.2.2 := (List.forall_mem_cons.mpr ⟨Or.inl ⟨kX1_tour, q1225, rfl, _, rfl, Or.inl q1226, Or.inl q1224⟩, (List.forall_mem_cons.mpr ⟨Or.inl ⟨kX1_step, q1711, rfl, _, rfl, Or.inl q1712, Or.inl q1710⟩, (List.forall_mem_cons.mpr ⟨Or.inl ⟨kX1_start, q1719, rfl, _, rfl, Or.inl q1720, Or.inl q1718⟩, (List.forall_mem_cons.mpr ⟨Or.inl ⟨kX1_back, q1727, rfl, _, rfl, Or.inl q1728, Or.inl q1726⟩, (List.forall_mem_cons.mpr ⟨Or.inl ⟨kX1_tourOf, q1735, rfl, _, rfl, Or.inl q1736, Or.inl q1734⟩, (List.forall_mem_cons.mpr ⟨Or.inl ⟨kX1_stepOf, q1750, rfl, _, rfl, Or.inl q1751, Or.inl q1749⟩, (List.forall_mem_cons.mpr ⟨Or.inl ⟨kX1_shut, q1762, rfl, _, rfl, Or.inl q1763, Or.inl q1761⟩, (List.forall_mem_cons.mpr ⟨Or.inl ⟨kX1_dear, q1771, rfl, _, rfl, Or.inl q1772, Or.inl q1770⟩, (List.forall_mem_cons.mpr ⟨Or.inl ⟨kX1_townOf, q1779, rfl, _, rfl, Or.inl q1780, Or.inl q1778⟩, (List.forall_mem_cons.mpr ⟨Or.inl ⟨kX1_pass, q1799, rfl, _, rfl, Or.inl q1800, Or.inl q1798⟩, (List.forall_mem_cons.mpr ⟨Or.inl ⟨kX1_left, q1807, rfl, _, rfl, Or.inl q1808, Or.inl q1806⟩, (List.forall_mem_cons.mpr ⟨Or.inl ⟨kX1_leftAgain, q1820, rfl, _, rfl, Or.inl q1821, Or.inl q1819⟩, (List.forall_mem_cons.mpr ⟨Or.inl ⟨kX1_faultOf, q1829, rfl, _, rfl, Or.inl q1830, Or.inl q1828⟩, (List.forall_mem_cons.mpr ⟨Or.inl ⟨kX1_endsIn, q1839, rfl, _, rfl, Or.inl q1840, Or.inl q1838⟩, (List.forall_mem_cons.mpr ⟨Or.inl ⟨kX1_costs, q1850, rfl, _, rfl, Or.inl q1851, Or.inl q1849⟩, (List.forall_mem_cons.mpr ⟨Or.inl ⟨kX1_cheapest, q1860, rfl, _, rfl, Or.inl q1861, Or.inl q1859⟩, (List.forall_mem_cons.mpr ⟨Or.inl ⟨kX1_ranked, q1898, rfl, _, rfl, Or.inl q1899, Or.inl q1897⟩, (List.forall_mem_cons.mpr ⟨Or.inl ⟨kX1_line, q1964, rfl, _, rfl, Or.inl q1965, Or.inl q1963⟩, (List.forall_mem_cons.mpr ⟨Or.inl ⟨kX1_character, q2033, rfl, _, rfl, Or.inl q2034, Or.inl q2032⟩, (List.forall_mem_cons.mpr ⟨Or.inl ⟨kX1_number, q2058, rfl, _, rfl, Or.inl q2059, Or.inl q2057⟩, (List.forall_mem_cons.mpr ⟨Or.inl ⟨kX1_meanSteps, q2086, rfl, _, rfl, Or.inl q2087, Or.inl q2085⟩, (List.forall_mem_cons.mpr ⟨Or.inl ⟨kX1_failedShare, q2100, rfl, _, rfl, Or.inl q2101, Or.inl q2099⟩, (List.forall_mem_cons.mpr ⟨Or.inl ⟨kX1_feed, q2108, rfl, _, rfl, Or.inl q2109, Or.inl q2107⟩, (List.forall_mem_cons.mpr ⟨Or.inl ⟨kX1_read, q2123, rfl, _, rfl, Or.inl q2124, Or.inl q2122⟩, (List.forall_mem_cons.mpr ⟨Or.inl ⟨kX1_faultPosition, q2334, rfl, _, rfl, Or.inl q2335, Or.inl q2333⟩, (List.forall_mem_cons.mpr ⟨Or.inl ⟨kX1_refusal, q2341, rfl, _, rfl, Or.inl q2342, Or.inl q2340⟩, (List.forall_mem_cons.mpr ⟨Or.inl ⟨kX1_undo, q2348, rfl, _, rfl, Or.inl q2349, Or.inl q2347⟩, (List.forall_mem_cons.mpr ⟨Or.inl ⟨kX1_restoreSnapshot, q2374, rfl, _, rfl, Or.inl q2375, Or.inl q2373⟩, (List.forall_mem_cons.mpr ⟨Or.inl ⟨kX4_tour, q2455, rfl, _, rfl, Or.inl q2456, Or.inl q2454⟩, (List.forall_mem_cons.mpr ⟨Or.inl ⟨kX4_thrown, q2451, rfl, _, rfl, Or.inl q2452, Or.inl q2450⟩, (fun _ h => nomatch h)⟩)⟩)⟩)⟩)⟩)⟩)⟩)⟩)⟩)⟩)⟩)⟩)⟩)⟩)⟩)⟩)⟩)⟩)⟩)⟩)⟩)⟩)⟩)⟩)⟩)⟩)⟩)⟩)⟩)⟩)
def VK38_1 : List (Nat × Nat × (MI × Nat)) := [(132, 3, (mX4_step, 5)), (135, 3, (mX4_start, 1)), (138, 3, (mX4_back, 1)), (142, 3, (mX4_tourOf, 2)), (146, 3, (mX4_stepOf, 3)), (150, 3, (mX4_shut, 2)), (153, 3, (mX4_dear, 2)), (156, 3, (mX4_townOf, 2)), (159, 3, (mX4_pass, 1)), (162, 3, (mX4_left, 3)), (165, 3, (mX4_leftAgain, 3)), (168, 3, (mX4_faultOf, 1)), (171, 3, (mX4_endsIn, 1)), (174, 3, (mX4_costs, 1)), (177, 3, (mX4_cheapest, 3)), (180, 3, (mX4_ranked, 1)), (183, 3, (mX4_line, 1)), (186, 3, (mX4_character, 1)), (189, 3, (mX4_number, 1)), (190, 0, (mX1_coinsAgain, 0)), (193, 3, (mX4_coinsAgain, 0)), (197, 3, (mX4_meanSteps, 0)), (200, 3, (mX4_failedShare, 0)), (204, 3, (mX4_feed, 1)), (208, 3, (mX4_read, 0)), (211, 3, (mX4_faultPosition, 0)), (215, 3, (mX4_refusal, 1)), (218, 3, (mX4_undo, 0)), (219, 0, (mX1_saveSnapshot, 0)), (222, 3, (mX4_saveSnapshot, 0))]
theorem VK38_1_ok (X : XT) : ∀ r ∈ VK38_1, VS (mkG X) (cn 38) r.1 r.2.1 r.2.2.1 r.2.2.2 := (List.forall_mem_cons.mpr ⟨Or.inl ⟨kX4_step, q2490, rfl, _, rfl, Or.inl q2491, Or.inl q2489⟩, (List.forall_mem_cons.mpr ⟨Or.inl ⟨kX4_start, q2519, rfl, _, rfl, Or.inl q2520, Or.inl q2518⟩, (List.forall_mem_cons.mpr ⟨Or.inl ⟨kX4_back, q2535, rfl, _, rfl, Or.inl q2536, Or.inl q2534⟩, (List.forall_mem_cons.mpr ⟨Or.inl ⟨kX4_tourOf, q2547, rfl, _, rfl, Or.inl q2548, Or.inl q2546⟩, (List.forall_mem_cons.mpr ⟨Or.inl ⟨kX4_stepOf, q2551, rfl, _, rfl, Or.inl q2552, Or.inl q2550⟩, (List.forall_mem_cons.mpr ⟨Or.inl ⟨kX4_shut, q2555, rfl, _, rfl, Or.inl q2556, Or.inl q2554⟩, (List.forall_mem_cons.mpr ⟨Or.inl ⟨kX4_dear, q2571, rfl, _, rfl, Or.inl q2572, Or.inl q2570⟩, (List.forall_mem_cons.mpr ⟨Or.inl ⟨kX4_townOf, q2579, rfl, _, rfl, Or.inl q2580, Or.inl q2578⟩, (List.forall_mem_cons.mpr ⟨Or.inl ⟨kX4_pass, q2587, rfl, _, rfl, Or.inl q2588, Or.inl q2586⟩, (List.forall_mem_cons.mpr ⟨Or.inl ⟨kX4_left, q2631, rfl, _, rfl, Or.inl q2632, Or.inl q2630⟩, (List.forall_mem_cons.mpr ⟨Or.inl ⟨kX4_leftAgain, q2635, rfl, _, rfl, Or.inl q2636, Or.inl q2634⟩, (List.forall_mem_cons.mpr ⟨Or.inl ⟨kX4_faultOf, q2640, rfl, _, rfl, Or.inl q2641, Or.inl q2639⟩, (List.forall_mem_cons.mpr ⟨Or.inl ⟨kX4_endsIn, q2644, rfl, _, rfl, Or.inl q2645, Or.inl q2643⟩, (List.forall_mem_cons.mpr ⟨Or.inl ⟨kX4_costs, q2648, rfl, _, rfl, Or.inl q2649, Or.inl q2647⟩, (List.forall_mem_cons.mpr ⟨Or.inl ⟨kX4_cheapest, q2652, rfl, _, rfl, Or.inl q2653, Or.inl q2651⟩, (List.forall_mem_cons.mpr ⟨Or.inl ⟨kX4_ranked, q2656, rfl, _, rfl, Or.inl q2657, Or.inl q2655⟩, (List.forall_mem_cons.mpr ⟨Or.inl ⟨kX4_line, q2664, rfl, _, rfl, Or.inl q2665, Or.inl q2663⟩, (List.forall_mem_cons.mpr ⟨Or.inl ⟨kX4_character, q2675, rfl, _, rfl, Or.inl q2676, Or.inl q2674⟩, (List.forall_mem_cons.mpr ⟨Or.inl ⟨kX4_number, q2679, rfl, _, rfl, Or.inl q2680, Or.inl q2678⟩, (List.forall_mem_cons.mpr ⟨Or.inl ⟨kX1_coinsAgain, q447, rfl, _, rfl, Or.inl q448, Or.inl q446⟩, (List.forall_mem_cons.mpr ⟨Or.inl ⟨kX4_coinsAgain, q2683, rfl, _, rfl, Or.inl q2684, Or.inl q2682⟩, (List.forall_mem_cons.mpr ⟨Or.inl ⟨kX4_meanSteps, q2687, rfl, _, rfl, Or.inl q2688, Or.inl q2686⟩, (List.forall_mem_cons.mpr ⟨Or.inl ⟨kX4_failedShare, q2691, rfl, _, rfl, Or.inl q2692, Or.inl q2690⟩, (List.forall_mem_cons.mpr ⟨Or.inl ⟨kX4_feed, q2695, rfl, _, rfl, Or.inl q2696, Or.inl q2694⟩, (List.forall_mem_cons.mpr ⟨Or.inl ⟨kX4_read, q2699, rfl, _, rfl, Or.inl q2700, Or.inl q2698⟩, (List.forall_mem_cons.mpr ⟨Or.inl ⟨kX4_faultPosition, q2787, rfl, _, rfl, Or.inl q2788, Or.inl q2786⟩, (List.forall_mem_cons.mpr ⟨Or.inl ⟨kX4_refusal, q2791, rfl, _, rfl, Or.inl q2792, Or.inl q2790⟩, (List.forall_mem_cons.mpr ⟨Or.inl ⟨kX4_undo, q2795, rfl, _, rfl, Or.inl q2796, Or.inl q2794⟩, (List.forall_mem_cons.mpr ⟨Or.inl ⟨kX1_saveSnapshot, q454, rfl, _, rfl, Or.inl q455, Or.inl q453⟩, (List.forall_mem_cons.mpr ⟨Or.inl ⟨kX4_saveSnapshot, q2799, rfl, _, rfl, Or.inl q2800, Or.inl q2798⟩, (fun _ h => nomatch h)⟩)⟩)⟩)⟩)⟩)⟩)⟩)⟩)⟩)⟩)⟩)⟩)⟩)⟩)⟩)⟩)⟩)⟩)⟩)⟩)⟩)⟩)⟩)⟩)⟩)⟩)⟩)⟩)⟩)⟩)
def VK38_2 : List (Nat × Nat × (MI × Nat)) := [(225, 3, (mX4_restoreSnapshot, 0))]
theorem VK38_2_ok (X : XT) : ∀ r ∈ VK38_2, VS (mkG X) (cn 38) r.1 r.2.1 r.2.2.1 r.2.2.2 := (List.forall_mem_cons.mpr ⟨Or.inl ⟨kX4_restoreSnapshot, q2803, rfl, _, rfl, Or.inl q2804, Or.inl q2802⟩, (fun _ h => nomatch h)⟩)
def VK38 : List (Nat × Nat × (MI × Nat)) := VK38_0 ++ VK38_1 ++ VK38_2
def VK38a : List (Nat × Nat × (MI × Nat)) := VK38_0 ++ (VK38_1 ++ (VK38_2))
theorem VK38_ok (X : XT) : ∀ r ∈ VK38a, VS (mkG X) (cn 38) r.1 r.2.1 r.2.2.1 r.2.2.2 := List.forall_mem_append.mpr ⟨VK38_0_ok X, List.forall_mem_append.mpr ⟨VK38_1_ok X, VK38_2_ok X⟩⟩
def VK42_0 : List (Nat × Nat × (MI × Nat)) := [(64, 3, (mX4_of, 2)), (68, 3, (mX4_isShut, 1)), (72, 3, (mX4_refuses, 2)), (75, 3, (mX4_sets, 3)), (79, 3, (mX4_does, 1)), (83, 3, (mX4_tries, 0)), (86, 3, (mX4_plans, 1)), (89, 3, (mX4_keeps, 1)), (92, 3, (mX4_raises, 1)), (95, 3, (mX4_isTour, 1)), (107, 3, (mX4_step_2, 3)), (111, 3, (mX4_steps, 5)), (115, 3, (mX4_toursThat, 1)), (118, 3, (mX4_starts, 1)), (121, 3, (mX4_endsAt, 1)), (124, 3, (mX4_turnsBack, 1)), (128, 3, (mX4_callsBack, 1)), (131, 3, (mX4_openTowns, 0)), (135, 3, (mX4_shuts, 2)), (139, 3, (mX4_dearness, 1)), (142, 3, (mX4_booked, 1)), (145, 3, (mX4_leftOf, 3)), (148, 3, (mX4_price, 2)), (151, 3, (mX4_gets, 1)), (154, 3, (mX4_nextFault, 1)), (157, 3, (mX4_books, 1)), (160, 3, (mX4_unbooks, 1)), (163, 3, (mX4_goesOn, 1)), (166, 3, (mX4_makesTry, 1)), (169, 3, (mX4_hourGoes, 0))]
theorem VK42_0_ok (X : XT) : ∀ r ∈ VK42_0, VS (mkG X) (cn 42) r.1 r.2.1 r.2.2.1 r.2.2.2 := (List.forall_mem_cons.mpr ⟨Or.inl ⟨kX4_of, q2512, rfl, _, rfl, Or.inl qs43, Or.inl q2510⟩, (List.forall_mem_cons.mpr ⟨Or.inl ⟨kX4_isShut, q2564, rfl, _, rfl, Or.inl qs51, Or.inl q2562⟩, (List.forall_mem_cons.mpr ⟨Or.inl ⟨kX4_refuses, q2471, rfl, _, rfl, Or.inl qs36, Or.inl q2469⟩, (List.forall_mem_cons.mpr ⟨Or.inl ⟨kX4_sets, q2475, rfl, _, rfl, Or.inl qs37, Or.inl q2473⟩, (List.forall_mem_cons.mpr ⟨Or.inl ⟨kX4_does, q2479, rfl, _, rfl, Or.inl qs38, Or.inl q2477⟩, (List.forall_mem_cons.mpr ⟨Or.inl ⟨kX4_tries, q2460, rfl, _, rfl, Or.inl qs34, Or.inl q2458⟩, (List.forall_mem_cons.mpr ⟨Or.inl ⟨kX4_plans, q2464, rfl, _, rfl, Or.inl qs35, Or.inl q2462⟩, (List.forall_mem_cons.mpr ⟨Or.inl ⟨kX4_keeps, q2483, rfl, _, rfl, Or.inl qs39, Or.inl q2481⟩, (List.forall_mem_cons.mpr ⟨Or.inl ⟨kX4_raises, q2487, rfl, _, rfl, Or.inl qs40, Or.inl q2485⟩, (List.forall_mem_cons.mpr ⟨Or.inl ⟨kX4_isTour, q2499, rfl, _, rfl, Or.inl qs42, Or.inl q2497⟩, (List.forall_mem_cons.mpr ⟨Or.inl ⟨kX4_step_2, q2516, rfl, _, rfl, Or.inl qs44, Or.inl q2514⟩, (List.forall_mem_cons.mpr ⟨Or.inl ⟨kX4_steps, q2495, rfl, _, rfl, Or.inl qs41, Or.inl q2493⟩, (List.forall_mem_cons.mpr ⟨Or.inl ⟨kX4_toursThat, q2528, rfl, _, rfl, Or.inl qs46, Or.inl q2526⟩, (List.forall_mem_cons.mpr ⟨Or.inl ⟨kX4_starts, q2524, rfl, _, rfl, Or.inl qs45, Or.inl q2522⟩, (List.forall_mem_cons.mpr ⟨Or.inl ⟨kX4_endsAt, q2532, rfl, _, rfl, Or.inl qs47, Or.inl q2530⟩, (List.forall_mem_cons.mpr ⟨Or.inl ⟨kX4_turnsBack, q2544, rfl, _, rfl, Or.inl qs49, Or.inl q2542⟩, (List.forall_mem_cons.mpr ⟨Or.inl ⟨kX4_callsBack, q2540, rfl, _, rfl, Or.inl qs48, Or.inl q2538⟩, (List.forall_mem_cons.mpr ⟨Or.inl ⟨kX4_openTowns, q2568, rfl, _, rfl, Or.inl qs52, Or.inl q2566⟩, (List.forall_mem_cons.mpr ⟨Or.inl ⟨kX4_shuts, q2560, rfl, _, rfl, Or.inl qs50, Or.inl q2558⟩, (List.forall_mem_cons.mpr ⟨Or.inl ⟨kX4_dearness, q2576, rfl, _, rfl, Or.inl qs53, Or.inl q2574⟩, (List.forall_mem_cons.mpr ⟨Or.inl ⟨kX4_booked, q2584, rfl, _, rfl, Or.inl qs54, Or.inl q2582⟩, (List.forall_mem_cons.mpr ⟨Or.inl ⟨kX4_leftOf, q2612, rfl, _, rfl, Or.inl qs60, Or.inl q2610⟩, (List.forall_mem_cons.mpr ⟨Or.inl ⟨kX4_price, q2616, rfl, _, rfl, Or.inl qs61, Or.inl q2614⟩, (List.forall_mem_cons.mpr ⟨Or.inl ⟨kX4_gets, q2624, rfl, _, rfl, Or.inl qs63, Or.inl q2622⟩, (List.forall_mem_cons.mpr ⟨Or.inl ⟨kX4_nextFault, q2608, rfl, _, rfl, Or.inl qs59, Or.inl q2606⟩, (List.forall_mem_cons.mpr ⟨Or.inl ⟨kX4_books, q2620, rfl, _, rfl, Or.inl qs62, Or.inl q2618⟩, (List.forall_mem_cons.mpr ⟨Or.inl ⟨kX4_unbooks, q2628, rfl, _, rfl, Or.inl qs64, Or.inl q2626⟩, (List.forall_mem_cons.mpr ⟨Or.inl ⟨kX4_goesOn, q2600, rfl, _, rfl, Or.inl qs57, Or.inl q2598⟩, (List.forall_mem_cons.mpr ⟨Or.inl ⟨kX4_makesTry, q2604, rfl, _, rfl, Or.inl qs58, Or.inl q2602⟩, (List.forall_mem_cons.mpr ⟨Or.inl ⟨kX4_hourGoes, q2596, rfl, _, rfl, Or.inl qs56, Or.inl q2594⟩, (fun _ h => nomatch h)⟩)⟩)⟩)⟩)⟩)⟩)⟩)⟩)⟩)⟩)⟩)⟩)⟩)⟩)⟩)⟩)⟩)⟩)⟩)⟩)⟩)⟩)⟩)⟩)⟩)⟩)⟩)⟩)⟩)⟩)
def VK42_1 : List (Nat × Nat × (MI × Nat)) := [(172, 3, (mX4_passes, 1)), (175, 3, (mX4_left, 3)), (178, 3, (mX4_isAhead, 2)), (185, 3, (mX4_writesNumber, 1)), (190, 14, (mJ4_charAt, 1)), (204, 14, (mJ4_length, 0)), (206, 14, (mJ4_indexOf_2, 2)), (209, 14, (mJ4_substring_2, 2)), (218, 3, (mX4_number_2, 2)), (221, 3, (mX4_takes, 1)), (227, 3, (mX4_isOneOf, 1)), (231, 14, (mJ4_hashCode, 0)), (236, 14, (mJ4_equals, 1)), (246, 3, (mX4_isPlace, 0)), (260, 3, (mX4_isCommand, 0)), (263, 3, (mX4_carries, 0)), (266, 3, (mX4_comesBack, 0))]
theorem VK42_1_ok (X : XT) : ∀ r ∈ VK42_1, VS (mkG X) (cn 42) r.1 r.2.1 r.2.2.1 r.2.2.2 := (List.forall_mem_cons.mpr ⟨Or.inl ⟨kX4_passes, q2592, rfl, _, rfl, Or.inl qs55, Or.inl q2590⟩, (List.forall_mem_cons.mpr ⟨Or.inl ⟨kX4_left, q2631, rfl, _, rfl, Or.inl q2632, Or.inl q2638⟩, (List.forall_mem_cons.mpr ⟨Or.inl ⟨kX4_isAhead, q2661, rfl, _, rfl, Or.inl qs65, Or.inl q2659⟩, (List.forall_mem_cons.mpr ⟨Or.inl ⟨kX4_writesNumber, q2669, rfl, _, rfl, Or.inl qs66, Or.inl q2667⟩, (List.forall_mem_cons.mpr ⟨Or.inl ⟨kJ4_charAt, q1970, rfl, _, rfl, Or.inl q1971, Or.inl q2672⟩, (List.forall_mem_cons.mpr ⟨Or.inl ⟨kJ4_length, q633, rfl, _, rfl, Or.inl q634, Or.inl q2711⟩, (List.forall_mem_cons.mpr ⟨Or.inl ⟨kJ4_indexOf_2, q2713, rfl, _, rfl, Or.inl q2714, Or.inl q2712⟩, (List.forall_mem_cons.mpr ⟨Or.inl ⟨kJ4_substring_2, q2239, rfl, _, rfl, Or.inl q2240, Or.inl q2753⟩, (List.forall_mem_cons.mpr ⟨Or.inl ⟨kX4_number_2, q2767, rfl, _, rfl, Or.inl qs70, Or.inl q2765⟩, (List.forall_mem_cons.mpr ⟨Or.inl ⟨kX4_takes, q2771, rfl, _, rfl, Or.inl qs71, Or.inl q2769⟩, (List.forall_mem_cons.mpr ⟨Or.inl ⟨kX4_isOneOf, q2709, rfl, _, rfl, Or.inl qs68, Or.inl q2707⟩, (List.forall_mem_cons.mpr ⟨Or.inl ⟨kJ4_hashCode, q1252, rfl, _, rfl, Or.inl q1253, Or.inl q2755⟩, (List.forall_mem_cons.mpr ⟨Or.inl ⟨kJ4_equals, q1314, rfl, _, rfl, Or.inl q1315, Or.inl q2757⟩, (List.forall_mem_cons.mpr ⟨Or.inl ⟨kX4_isPlace, q2763, rfl, _, rfl, Or.inl qs69, Or.inl q2761⟩, (List.forall_mem_cons.mpr ⟨Or.inl ⟨kX4_isCommand, q2704, rfl, _, rfl, Or.inl qs67, Or.inl q2702⟩, (List.forall_mem_cons.mpr ⟨Or.inl ⟨kX4_carries, q2775, rfl, _, rfl, Or.inl qs72, Or.inl q2773⟩, (List.forall_mem_cons.mpr ⟨Or.inl ⟨kX4_comesBack, q2784, rfl, _, rfl, Or.inl qs73, Or.inl q2782⟩, (fun _ h => nomatch h)⟩)⟩)⟩)⟩)⟩)⟩)⟩)⟩)⟩)⟩)⟩)⟩)⟩)⟩)⟩)⟩)⟩)
def VK42 : List (Nat × Nat × (MI × Nat)) := VK42_0 ++ VK42_1
def VK42a : List (Nat × Nat × (MI × Nat)) := VK42_0 ++ (VK42_1)
theorem VK42_ok (X : XT) : ∀ r ∈ VK42a, VS (mkG X) (cn 42) r.1 r.2.1 r.2.2.1 r.2.2.2 := List.forall_mem_append.mpr ⟨VK42_0_ok X, VK42_1_ok X⟩
def VK2_0 : List (Nat × Nat × (MI × Nat)) := [(32, 14, (mJ4_length, 0)), (40, 14, (mJ4_coder, 0)), (83, 13, (mJ2_isLatin1, 0)), (100, 13, (mJ2_ensureCapacityInternal, 1)), (104, 13, (mJ2_newCapacity, 1)), (195, 13, (mJ2_inflate, 0)), (208, 13, (mJ2_putStringAt, 2)), (397, 13, (mJ2_inflateIfNeededFor, 1)), (399, 14, (mJ4_getBytes, 3))]
theorem VK2_0_ok (X : XT) : ∀ r ∈ VK2_0, VS (mkG X) (cn 2) r.1 r.2.1 r.2.2.1 r.2.2.2 := (List.forall_mem_cons.mpr ⟨Or.inl ⟨kJ4_length, q633, rfl, _, rfl, Or.inl q634, Or.inl q632⟩, (List.forall_mem_cons.mpr ⟨Or.inl ⟨kJ4_coder, q637, rfl, _, rfl, Or.inl q638, Or.inl q649⟩, (List.forall_mem_cons.mpr ⟨Or.inl ⟨kJ2_isLatin1, q602, rfl, _, rfl, Or.inl q604, Or.inl q601⟩, (List.forall_mem_cons.mpr ⟨Or.inl ⟨kJ2_ensureCapacityInternal, q583, rfl, _, rfl, Or.inr (List.mem_of_getElem? (i := 150) rfl), Or.inl q581⟩, (List.forall_mem_cons.mpr ⟨Or.inl ⟨kJ2_newCapacity, q587, rfl, _, rfl, Or.inr (List.mem_of_getElem? (i := 151) rfl), Or.inl q585⟩, (List.forall_mem_cons.mpr ⟨Or.inl ⟨kJ2_inflate, q652, rfl, _, rfl, Or.inr (List.mem_of_getElem? (i := 154) rfl), Or.inl q650⟩, (List.forall_mem_cons.mpr ⟨Or.inl ⟨kJ2_putStringAt, q643, rfl, _, rfl, Or.inr (List.mem_of_getElem? (i := 152) rfl), Or.inl q641⟩, (List.forall_mem_cons.mpr ⟨Or.inl ⟨kJ2_inflateIfNeededFor, q647, rfl, _, rfl, Or.inr (List.mem_of_getElem? (i := 153) rfl), Or.inl q645⟩, (List.forall_mem_cons.mpr ⟨Or.inl ⟨kJ4_getBytes, q670, rfl, _, rfl, Or.inl q671, Or.inl q669⟩, (fun _ h => nomatch h)⟩)⟩)⟩)⟩)⟩)⟩)⟩)⟩)⟩)
def VK2 : List (Nat × Nat × (MI × Nat)) := VK2_0
theorem VK2_ok (X : XT) : ∀ r ∈ VK2, VS (mkG X) (cn 2) r.1 r.2.1 r.2.2.1 r.2.2.2 := VK2_0_ok X
def VK30_0 : List (Nat × Nat × (MI × Nat)) := [(15, 13, (mJ3_append, 1)), (19, 13, (mJ3_append_2, 1)), (22, 13, (mJ3_toString, 0))]
theorem VK30_0_ok (X : XT) : ∀ r ∈ VK30_0, VS (mkG X) (cn 30) r.1 r.2.1 r.2.2.1 r.2.2.2 := (List.forall_mem_cons.mpr ⟨Or.inl ⟨kJ3_append, q571, rfl, _, rfl, Or.inl q572, Or.inl q2320⟩, (List.forall_mem_cons.mpr ⟨Or.inl ⟨kJ3_append_2, q676, rfl, _, rfl, Or.inl q677, Or.inl q2321⟩, (List.forall_mem_cons.mpr ⟨Or.inl ⟨kJ3_toString, q702, rfl, _, rfl, Or.inl q703, Or.inl q2322⟩, (fun _ h => nomatch h)⟩)⟩)⟩)
def VK30 : List (Nat × Nat × (MI × Nat)) := VK30_0
theorem VK30_ok (X : XT) : ∀ r ∈ VK30, VS (mkG X) (cn 30) r.1 r.2.1 r.2.2.1 r.2.2.2 := VK30_0_ok X
def VK4_0 : List (Nat × Nat × (MI × Nat)) := [(335, 14, (mJ4_coder, 0)), (492, 14, (mJ4_isLatin1, 0)), (505, 14, (mJ4_length, 0)), (552, 13, (mJ2_getValue, 0)), (681, 14, (mJ4_substring_2, 2)), (711, 14, (mJ4_indexOf, 1)), (1047, 13, (mJ2_isLatin1, 0)), (549, 13, (mJ3_length, 0))]
theorem VK4_0_ok (X : XT) : ∀ r ∈ VK4_0, VS (mkG X) (cn 4) r.1 r.2.1 r.2.2.1 r.2.2.2 := (List.forall_mem_cons.mpr ⟨Or.inl ⟨kJ4_coder, q637, rfl, _, rfl, Or.inl q638, Or.inl q636⟩, (List.forall_mem_cons.mpr ⟨Or.inl ⟨kJ4_isLatin1, q1256, rfl, _, rfl, Or.inl q1257, Or.inl q1255⟩, (List.forall_mem_cons.mpr ⟨Or.inl ⟨kJ4_length, q633, rfl, _, rfl, Or.inl q634, Or.inl q2237⟩, (List.forall_mem_cons.mpr ⟨Or.inl ⟨kJ2_getValue, q715, rfl, _, rfl, Or.inl q717, Or.inl q714⟩, (List.forall_mem_cons.mpr ⟨Or.inl ⟨kJ4_substring_2, q2239, rfl, _, rfl, Or.inl q2240, Or.inl q2238⟩, (List.forall_mem_cons.mpr ⟨Or.inl ⟨kJ4_indexOf, q2181, rfl, _, rfl, Or.inl q2182, Or.inl q2180⟩, (List.forall_mem_cons.mpr ⟨Or.inl ⟨kJ2_isLatin1, q602, rfl, _, rfl, Or.inl q604, Or.inl q727⟩, (List.forall_mem_cons.mpr ⟨Or.inr ⟨kJ3_length, q723, rfl, _, ⟨"java/lang/AbstractStringBuilder", "length", "()I"⟩, "java/lang/AbstractStringBuilder", rfl, rfl, ⟨by decide +kernel, by decide +kernel⟩, q719, q721, q722, Or.inr ⟨q720, _, _, _, q726⟩⟩, (fun _ h => nomatch h)⟩)⟩)⟩)⟩)⟩)⟩)⟩)⟩)
def VK4 : List (Nat × Nat × (MI × Nat)) := VK4_0
theorem VK4_ok (X : XT) : ∀ r ∈ VK4, VS (mkG X) (cn 4) r.1 r.2.1 r.2.2.1 r.2.2.2 := VK4_0_ok X
def VK34_0 : List (Nat × Nat × (MI × Nat)) := [(15, 13, (mJ3_append, 1)), (19, 13, (mJ3_append_2, 1)), (22, 13, (mJ3_toString, 0))]
theorem VK34_0_ok (X : XT) : ∀ r ∈ VK34_0, VS (mkG X) (cn 34) r.1 r.2.1 r.2.2.1 r.2.2.2 := (List.forall_mem_cons.mpr ⟨Or.inl ⟨kJ3_append, q571, rfl, _, rfl, Or.inl q572, Or.inl q2290⟩, (List.forall_mem_cons.mpr ⟨Or.inl ⟨kJ3_append_2, q676, rfl, _, rfl, Or.inl q677, Or.inl q2291⟩, (List.forall_mem_cons.mpr ⟨Or.inl ⟨kJ3_toString, q702, rfl, _, rfl, Or.inl q703, Or.inl q2292⟩, (fun _ h => nomatch h)⟩)⟩)⟩)
def VK34 : List (Nat × Nat × (MI × Nat)) := VK34_0
theorem VK34_ok (X : XT) : ∀ r ∈ VK34, VS (mkG X) (cn 34) r.1 r.2.1 r.2.2.1 r.2.2.2 := VK34_0_ok X
def VK13_0 : List (Nat × Nat × (MI × Nat)) := [(35, 6, (mJ13_toString, 0)), (35, 11, (mJ13_toString, 0)), (39, 6, (mJ13_getMessage, 0)), (39, 11, (mJ13_getMessage, 0)), (49, 13, (mJ3_append, 1)), (60, 13, (mJ3_toString, 0)), (78, 6, (mJ13_getLocalizedMessage, 0)), (78, 11, (mJ13_getLocalizedMessage, 0))]
theorem VK13_0_ok (X : XT) : ∀ r ∈ VK13_0, VS (mkG X) (cn 13) r.1 r.2.1 r.2.2.1 r.2.2.2 := (List.forall_mem_cons.mpr ⟨Or.inl ⟨kJ13_toString, q1016, rfl, _, rfl, Or.inl q1019, Or.inl q1015⟩, (List.forall_mem_cons.mpr ⟨Or.inl ⟨kJ13_toString, q1016, rfl, _, rfl, Or.inl q1018, Or.inl q1015⟩, (List.forall_mem_cons.mpr ⟨Or.inl ⟨kJ13_getMessage, q1045, rfl, _, rfl, Or.inl q1048, Or.inl q1044⟩, (List.forall_mem_cons.mpr ⟨Or.inl ⟨kJ13_getMessage, q1045, rfl, _, rfl, Or.inl q1047, Or.inl q1044⟩, (List.forall_mem_cons.mpr ⟨Or.inl ⟨kJ3_append, q571, rfl, _, rfl, Or.inl q572, Or.inl q1060⟩, (List.forall_mem_cons.mpr ⟨Or.inl ⟨kJ3_toString, q702, rfl, _, rfl, Or.inl q703, Or.inl q1062⟩, (List.forall_mem_cons.mpr ⟨Or.inl ⟨kJ13_getLocalizedMessage, q1031, rfl, _, rfl, Or.inl q1034, Or.inl q1030⟩, (List.forall_mem_cons.mpr ⟨Or.inl ⟨kJ13_getLocalizedMessage, q1031, rfl, _, rfl, Or.inl q1033, Or.inl q1030⟩, (fun _ h => nomatch h)⟩)⟩)⟩)⟩)⟩)⟩)⟩)⟩)
def VK13 : List (Nat × Nat × (MI × Nat)) := VK13_0
theorem VK13_ok (X : XT) : ∀ r ∈ VK13, VS (mkG X) (cn 13) r.1 r.2.1 r.2.2.1 r.2.2.2 := VK13_0_ok X
def VK1_0 : List (Nat × Nat × (MI × Nat)) := [(10, 12, (mJ1_newCapacity, 2)), (71, 12, (mJ1_grow, 1)), (86, 12, (mJ1_addFirst, 1)), (93, 12, (mJ1_pollFirst, 0)), (100, 12, (mJ1_pollLast, 0)), (118, 12, (mJ1_removeFirst, 0)), (189, 12, (mJ1_toArray_2, 1))]
theorem VK1_0_ok (X : XT) : ∀ r ∈ VK1_0, VS (mkG X) (cn 1) r.1 r.2.1 r.2.2.1 r.2.2.2 := (List.forall_mem_cons.mpr ⟨Or.inl ⟨kJ1_newCapacity, q1652, rfl, _, rfl, Or.inl qs22, Or.inl q1650⟩, (List.forall_mem_cons.mpr ⟨Or.inl ⟨kJ1_grow, q1647, rfl, _, rfl, Or.inl qs21, Or.inl q1645⟩, (List.forall_mem_cons.mpr ⟨Or.inl ⟨kJ1_addFirst, q1642, rfl, _, rfl, Or.inl q1643, Or.inl q1641⟩, (List.forall_mem_cons.mpr ⟨Or.inl ⟨kJ1_pollFirst, q2364, rfl, _, rfl, Or.inl q2365, Or.inl q2363⟩, (List.forall_mem_cons.mpr ⟨Or.inl ⟨kJ1_pollLast, q1626, rfl, _, rfl, Or.inl q1627, Or.inl q1625⟩, (List.forall_mem_cons.mpr ⟨Or.inl ⟨kJ1_removeFirst, q2360, rfl, _, rfl, Or.inl q2361, Or.inl q2359⟩, (List.forall_mem_cons.mpr ⟨Or.inl ⟨kJ1_toArray_2, q1177, rfl, _, rfl, Or.inl qs12, Or.inl q1175⟩, (fun _ h => nomatch h)⟩)⟩)⟩)⟩)⟩)⟩)⟩)
def VK1 : List (Nat × Nat × (MI × Nat)) := VK1_0
theorem VK1_ok (X : XT) : ∀ r ∈ VK1, VS (mkG X) (cn 1) r.1 r.2.1 r.2.2.1 r.2.2.2 := VK1_0_ok X
def VK7_0 : List (Nat × Nat × (MI × Nat)) := [(25, 13, (mJ3_append, 1)), (29, 13, (mJ3_append_2, 1)), (32, 13, (mJ3_toString, 0)), (69, 15, (mJ7_grow_2, 1)), (123, 15, (mJ7_elementData, 1)), (129, 15, (mJ7_grow, 0)), (131, 15, (mJ7_add_2, 3)), (135, 15, (mJ7_rangeCheckForAdd, 1)), (198, 15, (mJ7_outOfBoundsMsg, 1))]
theorem VK7_0_ok (X : XT) : ∀ r ∈ VK7_0, VS (mkG X) (cn 7) r.1 r.2.1 r.2.2.1 r.2.2.2 := (List.forall_mem_cons.mpr ⟨Or.inl ⟨kJ3_append, q571, rfl, _, rfl, Or.inl q572, Or.inl q570⟩, (List.forall_mem_cons.mpr ⟨Or.inl ⟨kJ3_append_2, q676, rfl, _, rfl, Or.inl q677, Or.inl q675⟩, (List.forall_mem_cons.mpr ⟨Or.inl ⟨kJ3_toString, q702, rfl, _, rfl, Or.inl q703, Or.inl q701⟩, (List.forall_mem_cons.mpr ⟨Or.inl ⟨kJ7_grow_2, q273, rfl, _, rfl, Or.inl qs2, Or.inl q271⟩, (List.forall_mem_cons.mpr ⟨Or.inl ⟨kJ7_elementData, q969, rfl, _, rfl, Or.inl q970, Or.inl q968⟩, (List.forall_mem_cons.mpr ⟨Or.inl ⟨kJ7_grow, q269, rfl, _, rfl, Or.inl qs1, Or.inl q267⟩, (List.forall_mem_cons.mpr ⟨Or.inl ⟨kJ7_add_2, q265, rfl, _, rfl, Or.inl qs0, Or.inl q263⟩, (List.forall_mem_cons.mpr ⟨Or.inl ⟨kJ7_rangeCheckForAdd, q513, rfl, _, rfl, Or.inl qs4, Or.inl q511⟩, (List.forall_mem_cons.mpr ⟨Or.inl ⟨kJ7_outOfBoundsMsg, q565, rfl, _, rfl, Or.inl qs6, Or.inl q563⟩, (fun _ h => nomatch h)⟩)⟩)⟩)⟩)⟩)⟩)⟩)⟩)⟩)
def VK7 : List (Nat × Nat × (MI × Nat)) := VK7_0
theorem VK7_ok (X : XT) : ∀ r ∈ VK7, VS (mkG X) (cn 7) r.1 r.2.1 r.2.2.1 r.2.2.2 := VK7_0_ok X
def VK12_0 : List (Nat × Nat × (MI × Nat)) := [(31, 16, (mJ12_checkForComodification, 0))]
theorem VK12_0_ok (X : XT) : ∀ r ∈ VK12_0, VS (mkG X) (cn 12) r.1 r.2.1 r.2.2.1 r.2.2.2 := (List.forall_mem_cons.mpr ⟨Or.inl ⟨kJ12_checkForComodification, q1069, rfl, _, rfl, Or.inl q1070, Or.inl q1068⟩, (fun _ h => nomatch h)⟩)
def VK12 : List (Nat × Nat × (MI × Nat)) := VK12_0
theorem VK12_ok (X : XT) : ∀ r ∈ VK12, VS (mkG X) (cn 12) r.1 r.2.1 r.2.2.1 r.2.2.2 := VK12_0_ok X
def VK10_0 : List (Nat × Nat × (MI × Nat)) := [(50, 13, (mJ3_append, 1)), (54, 13, (mJ3_append_2, 1)), (61, 13, (mJ3_toString, 0))]
theorem VK10_0_ok (X : XT) : ∀ r ∈ VK10_0, VS (mkG X) (cn 10) r.1 r.2.1 r.2.2.1 r.2.2.2 := (List.forall_mem_cons.mpr ⟨Or.inl ⟨kJ3_append, q571, rfl, _, rfl, Or.inl q572, Or.inl q750⟩, (List.forall_mem_cons.mpr ⟨Or.inl ⟨kJ3_append_2, q676, rfl, _, rfl, Or.inl q677, Or.inl q748⟩, (List.forall_mem_cons.mpr ⟨Or.inl ⟨kJ3_toString, q702, rfl, _, rfl, Or.inl q703, Or.inl q751⟩, (fun _ h => nomatch h)⟩)⟩)⟩)
def VK10 : List (Nat × Nat × (MI × Nat)) := VK10_0
theorem VK10_ok (X : XT) : ∀ r ∈ VK10, VS (mkG X) (cn 10) r.1 r.2.1 r.2.2.1 r.2.2.2 := VK10_0_ok X
def VK32_0 : List (Nat × Nat × (MI × Nat)) := [(57, 17, (mJ32_linkLast, 1)), (73, 17, (mJ32_addAll_2, 2)), (76, 17, (mJ32_checkPositionIndex, 1)), (86, 17, (mJ32_node, 1)), (90, 17, (mJ32_checkElementIndex, 1)), (93, 17, (mJ32_linkBefore, 2)), (102, 13, (mJ3_append, 1)), (106, 13, (mJ3_append_2, 1)), (111, 13, (mJ3_toString, 0)), (115, 17, (mJ32_isElementIndex, 1)), (121, 17, (mJ32_outOfBoundsMsg, 1)), (128, 17, (mJ32_isPositionIndex, 1))]
theorem VK32_0_ok (X : XT) : ∀ r ∈ VK32_0, VS (mkG X) (cn 32) r.1 r.2.1 r.2.2.1 r.2.2.2 := (List.forall_mem_cons.mpr ⟨Or.inl ⟨kJ32_linkLast, q344, rfl, _, rfl, Or.inl q345, Or.inl q343⟩, (List.forall_mem_cons.mpr ⟨Or.inl ⟨kJ32_addAll_2, q1203, rfl, _, rfl, Or.inl q1204, Or.inl q1202⟩, (List.forall_mem_cons.mpr ⟨Or.inl ⟨kJ32_checkPositionIndex, q828, rfl, _, rfl, Or.inl qs7, Or.inl q826⟩, (List.forall_mem_cons.mpr ⟨Or.inl ⟨kJ32_node, q855, rfl, _, rfl, Or.inl q856, Or.inl q985⟩, (List.forall_mem_cons.mpr ⟨Or.inl ⟨kJ32_checkElementIndex, q979, rfl, _, rfl, Or.inl qs10, Or.inl q977⟩, (List.forall_mem_cons.mpr ⟨Or.inl ⟨kJ32_linkBefore, q1957, rfl, _, rfl, Or.inl q1958, Or.inl q1956⟩, (List.forall_mem_cons.mpr ⟨Or.inl ⟨kJ3_append, q571, rfl, _, rfl, Or.inl q572, Or.inl q843⟩, (List.forall_mem_cons.mpr ⟨Or.inl ⟨kJ3_append_2, q676, rfl, _, rfl, Or.inl q677, Or.inl q844⟩, (List.forall_mem_cons.mpr ⟨Or.inl ⟨kJ3_toString, q702, rfl, _, rfl, Or.inl q703, Or.inl q846⟩, (List.forall_mem_cons.mpr ⟨Or.inl ⟨kJ32_isElementIndex, q983, rfl, _, rfl, Or.inl qs11, Or.inl q981⟩, (List.forall_mem_cons.mpr ⟨Or.inl ⟨kJ32_outOfBoundsMsg, q838, rfl, _, rfl, Or.inl qs9, Or.inl q836⟩, (List.forall_mem_cons.mpr ⟨Or.inl ⟨kJ32_isPositionIndex, q833, rfl, _, rfl, Or.inl qs8, Or.inl q831⟩, (fun _ h => nomatch h)⟩)⟩)⟩)⟩)⟩)⟩)⟩)⟩)⟩)⟩)⟩)⟩)
def VK32 : List (Nat × Nat × (MI × Nat)) := VK32_0
theorem VK32_ok (X : XT) : ∀ r ∈ VK32, VS (mkG X) (cn 32) r.1 r.2.1 r.2.2.1 r.2.2.2 := VK32_0_ok X
def VK24_0 : List (Nat × Nat × (MI × Nat)) := [(25, 17, (mJ32_node, 1)), (36, 19, (mJ24_checkForComodification, 0)), (39, 19, (mJ24_hasNext, 0))]
theorem VK24_0_ok (X : XT) : ∀ r ∈ VK24_0, VS (mkG X) (cn 24) r.1 r.2.1 r.2.2.1 r.2.2.2 := (List.forall_mem_cons.mpr ⟨Or.inl ⟨kJ32_node, q855, rfl, _, rfl, Or.inl q856, Or.inl q854⟩, (List.forall_mem_cons.mpr ⟨Or.inl ⟨kJ24_checkForComodification, q1084, rfl, _, rfl, Or.inl q1085, Or.inl q1083⟩, (List.forall_mem_cons.mpr ⟨Or.inl ⟨kJ24_hasNext, q912, rfl, _, rfl, Or.inl q2818, Or.inl q1087⟩, (fun _ h => nomatch h)⟩)⟩)⟩)
def VK24 : List (Nat × Nat × (MI × Nat)) := VK24_0
theorem VK24_ok (X : XT) : ∀ r ∈ VK24, VS (mkG X) (cn 24) r.1 r.2.1 r.2.2.1 r.2.2.2 := VK24_0_ok X
def VK8_0 : List (Nat × Nat × (MI × Nat)) := [(94, 13, (mJ3_append, 1)), (98, 13, (mJ3_append_2, 1)), (101, 13, (mJ3_toString, 0))]
theorem VK8_0_ok (X : XT) : ∀ r ∈ VK8_0, VS (mkG X) (cn 8) r.1 r.2.1 r.2.2.1 r.2.2.2 := (List.forall_mem_cons.mpr ⟨Or.inl ⟨kJ3_append, q571, rfl, _, rfl, Or.inl q572, Or.inl q1304⟩, (List.forall_mem_cons.mpr ⟨Or.inl ⟨kJ3_append_2, q676, rfl, _, rfl, Or.inl q677, Or.inl q1305⟩, (List.forall_mem_cons.mpr ⟨Or.inl ⟨kJ3_toString, q702, rfl, _, rfl, Or.inl q703, Or.inl q1306⟩, (fun _ h => nomatch h)⟩)⟩)⟩)
def VK8 : List (Nat × Nat × (MI × Nat)) := VK8_0
theorem VK8_ok (X : XT) : ∀ r ∈ VK8, VS (mkG X) (cn 8) r.1 r.2.1 r.2.2.1 r.2.2.2 := VK8_0_ok X
def VK0_0 : List (Nat × Nat × (MI × Nat)) := [(7, 12, (mJ1_size, 0)), (7, 15, (mJ7_size, 0)), (7, 17, (mJ32_size, 0))]
theorem VK0_0_ok (X : XT) : ∀ r ∈ VK0_0, VS (mkG X) (cn 0) r.1 r.2.1 r.2.2.1 r.2.2.2 := (List.forall_mem_cons.mpr ⟨Or.inr ⟨kJ1_size, q1513, rfl, _, ⟨"java/util/AbstractCollection", "size", "()I"⟩, "java/util/AbstractCollection", rfl, rfl, ⟨by decide +kernel, by decide +kernel⟩, q1512, q2819, q2820, Or.inl (List.mem_of_getElem? (i := 135) rfl)⟩, (List.forall_mem_cons.mpr ⟨Or.inr ⟨kJ7_size, q895, rfl, _, ⟨"java/util/AbstractCollection", "size", "()I"⟩, "java/util/AbstractCollection", rfl, rfl, ⟨by decide +kernel, by decide +kernel⟩, q1512, q2819, q2821, Or.inl (List.mem_of_getElem? (i := 135) rfl)⟩, (List.forall_mem_cons.mpr ⟨Or.inr ⟨kJ32_size, q898, rfl, _, ⟨"java/util/AbstractCollection", "size", "()I"⟩, "java/util/AbstractCollection", rfl, rfl, ⟨by decide +kernel, by decide +kernel⟩, q1512, q2819, q2822, Or.inl (List.mem_of_getElem? (i := 135) rfl)⟩, (fun _ h => nomatch h)⟩)⟩)⟩)
def VK0 : List (Nat × Nat × (MI × Nat)) := VK0_0
theorem VK0_ok (X : XT) : ∀ r ∈ VK0, VS (mkG X) (cn 0) r.1 r.2.1 r.2.2.1 r.2.2.2 := VK0_0_ok X
def VK6_0 : List (Nat × Nat × (MI × Nat)) := [(47, 15, (mJ7_listIterator, 1)), (47, 17, (mJ32_listIterator, 1))]
theorem VK6_0_ok (X : XT) : ∀ r ∈ VK6_0, VS (mkG X) (cn 6) r.1 r.2.1 r.2.2.1 r.2.2.2 := (List.forall_mem_cons.mpr ⟨Or.inr ⟨kJ7_listIterator, q509, rfl, _, ⟨"java/util/AbstractList", "listIterator", "(I)Ljava/util/ListIterator;"⟩, "java/util/AbstractList", rfl, rfl, ⟨by decide +kernel, by decide +kernel⟩, q505, q507, q508, Or.inl (List.mem_of_getElem? (i := 133) rfl)⟩, (List.forall_mem_cons.mpr ⟨Or.inr ⟨kJ32_listIterator, q824, rfl, _, ⟨"java/util/AbstractList", "listIterator", "(I)Ljava/util/ListIterator;"⟩, "java/util/AbstractList", rfl, rfl, ⟨by decide +kernel, by decide +kernel⟩, q505, q507, q823, Or.inl (List.mem_of_getElem? (i := 133) rfl)⟩, (fun _ h => nomatch h)⟩)⟩)
def VK6 : List (Nat × Nat × (MI × Nat)) := VK6_0
theorem VK6_ok (X : XT) : ∀ r ∈ VK6, VS (mkG X) (cn 6) r.1 r.2.1 r.2.2.1 r.2.2.2 := VK6_0_ok X
def VK22_0 : List (Nat × Nat × (MI × Nat)) := [(28, 15, (mJ7_size, 0)), (28, 17, (mJ32_size, 0)), (35, 15, (mJ7_get, 1)), (35, 17, (mJ32_get, 1))]
theorem VK22_0_ok (X : XT) : ∀ r ∈ VK22_0, VS (mkG X) (cn 22) r.1 r.2.1 r.2.2.1 r.2.2.2 := (List.forall_mem_cons.mpr ⟨Or.inr ⟨kJ7_size, q895, rfl, _, ⟨"java/util/AbstractList", "size", "()I"⟩, "java/util/AbstractCollection", rfl, rfl, ⟨by decide +kernel, by decide +kernel⟩, q891, q892, q894, Or.inl (List.mem_of_getElem? (i := 135) rfl)⟩, (List.forall_mem_cons.mpr ⟨Or.inr ⟨kJ32_size, q898, rfl, _, ⟨"java/util/AbstractList", "size", "()I"⟩, "java/util/AbstractCollection", rfl, rfl, ⟨by decide +kernel, by decide +kernel⟩, q891, q892, q897, Or.inl (List.mem_of_getElem? (i := 135) rfl)⟩, (List.forall_mem_cons.mpr ⟨Or.inr ⟨kJ7_get, q959, rfl, _, ⟨"java/util/AbstractList", "get", "(I)Ljava/lang/Object;"⟩, "java/util/AbstractList", rfl, rfl, ⟨by decide +kernel, by decide +kernel⟩, q997, q999, q1000, Or.inl (List.mem_of_getElem? (i := 138) rfl)⟩, (List.forall_mem_cons.mpr ⟨Or.inr ⟨kJ32_get, q974, rfl, _, ⟨"java/util/AbstractList", "get", "(I)Ljava/lang/Object;"⟩, "java/util/AbstractList", rfl, rfl, ⟨by decide +kernel, by decide +kernel⟩, q997, q999, q1001, Or.inl (List.mem_of_getElem? (i := 138) rfl)⟩, (fun _ h => nomatch h)⟩)⟩)⟩)⟩)
def VK22 : List (Nat × Nat × (MI × Nat)) := VK22_0
theorem VK22_ok (X : XT) : ∀ r ∈ VK22, VS (mkG X) (cn 22) r.1 r.2.1 r.2.2.1 r.2.2.2 := VK22_0_ok X
def VK31_0 : List (Nat × Nat × (MI × Nat)) := [(65, 17, (mJ6_listIterator, 0))]
theorem VK31_0_ok (X : XT) : ∀ r ∈ VK31_0, VS (mkG X) (cn 31) r.1 r.2.1 r.2.2.1 r.2.2.2 := (List.forall_mem_cons.mpr ⟨Or.inr ⟨kJ6_listIterator, q503, rfl, _, ⟨"java/util/AbstractSequentialList", "listIterator", "()Ljava/util/ListIterator;"⟩, "java/util/AbstractList", rfl, rfl, ⟨by decide +kernel, by decide +kernel⟩, q499, q500, q502, Or.inl (List.mem_of_getElem? (i := 126) rfl)⟩, (fun _ h => nomatch h)⟩)
def VK31 : List (Nat × Nat × (MI × Nat)) := VK31_0
theorem VK31_ok (X : XT) : ∀ r ∈ VK31, VS (mkG X) (cn 31) r.1 r.2.1 r.2.2.1 r.2.2.2 := VK31_0_ok X
def VKT : Nat → List (Nat × Nat × (MI × Nat))
  | 39 => VK39a
  | 48 => VK48
  | 44 => VK44
  | 49 => VK49
  | 46 => VK46
  | 40 => VK40
  | 43 => VK43
  | 41 => VK41
  | 47 => VK47
  | 38 => VK38a
  | 42 => VK42a
  | 2 => VK2
  | 30 => VK30
  | 4 => VK4
  | 34 => VK34
  | 13 => VK13
  | 1 => VK1
  | 7 => VK7
  | 12 => VK12
  | 10 => VK10
  | 32 => VK32
  | 24 => VK24
  | 8 => VK8
  | 0 => VK0
  | 6 => VK6
  | 22 => VK22
  | 31 => VK31
  | _ => []
def VK (o i c : Nat) : Option ((MI × Nat)) := lk (VKT o) i c
theorem VK_ok (X : XT) (o : Nat) : ∀ r ∈ VKT o, VS (mkG X) (cn o) r.1 r.2.1 r.2.2.1 r.2.2.2 := by
  unfold VKT
  split
  · exact VK39_ok X
  · exact VK48_ok X
  · exact VK44_ok X
  · exact VK49_ok X
  · exact VK46_ok X
  · exact VK40_ok X
  · exact VK43_ok X
  · exact VK41_ok X
  · exact VK47_ok X
  · exact VK38_ok X
  · exact VK42_ok X
  · exact VK2_ok X
  · exact VK30_ok X
  · exact VK4_ok X
  · exact VK34_ok X
  · exact VK13_ok X
  · exact VK1_ok X
  · exact VK7_ok X
  · exact VK12_ok X
  · exact VK10_ok X
  · exact VK32_ok X
  · exact VK24_ok X
  · exact VK8_ok X
  · exact VK0_ok X
  · exact VK6_ok X
  · exact VK22_ok X
  · exact VK31_ok X
  · exact fun _ h => nomatch h
theorem vk_39_60_12 : VK 39 60 12 = some ((mJ1_size, 0)) := rfl
theorem vk_39_64_12 : VK 39 64 12 = some ((mJ1_removeLast, 0)) := rfl
theorem vk_39_68_12 : VK 39 68 12 = some ((mJ1_push, 1)) := rfl
theorem vk_39_83_0 : VK 39 83 0 = some ((mX1_draft, 0)) := rfl
theorem vk_39_92_5 : VK 39 92 5 = some ((mX6_done, 1)) := rfl
theorem vk_39_96_0 : VK 39 96 0 = some ((mX1_replace, 2)) := rfl
theorem vk_39_100_0 : VK 39 100 0 = some ((mX1_refuse, 1)) := rfl
theorem vk_39_116_0 : VK 39 116 0 = some ((mX1_change, 2)) := rfl
theorem vk_39_126_0 : VK 39 126 0 = some ((mX1_at, 1)) := rfl
theorem vk_39_169_7 : VK 39 169 7 = some ((mX8_kind, 0)) := rfl
theorem vk_39_172_7 : VK 39 172 7 = some ((mX8_town, 0)) := rfl
theorem vk_39_175_7 : VK 39 175 7 = some ((mX8_day, 0)) := rfl
theorem vk_39_178_7 : VK 39 178 7 = some ((mX8_many, 0)) := rfl
theorem vk_39_210_8 : VK 39 210 8 = some ((mX9_iterator, 0)) := rfl
theorem vk_39_223_0 : VK 39 223 0 = some ((mX1_bookedIn, 3)) := rfl
theorem vk_39_235_0 : VK 39 235 0 = some ((mX1_townFor, 3)) := rfl
theorem vk_39_239_2 : VK 39 239 2 = some ((mX3_left, 2)) := rfl
theorem vk_39_247_4 : VK 39 247 4 = some ((mX5_isOnTheWay, 0)) := rfl
theorem vk_39_253_4 : VK 39 253 4 = some ((mX5_fault, 0)) := rfl
theorem vk_39_259_4 : VK 39 259 4 = some ((mX5_isOver, 0)) := rfl
theorem vk_39_262_1 : VK 39 262 1 = some ((mX2_live, 0)) := rfl
theorem vk_39_268_1 : VK 39 268 1 = some ((mX2_price, 1)) := rfl
theorem vk_39_277_9 : VK 39 277 9 = some ((mX10_look, 1)) := rfl
theorem vk_39_287_17 : VK 39 287 17 = some ((mJ32_size, 0)) := rfl
theorem vk_39_288_17 : VK 39 288 17 = some ((mJ32_get, 1)) := rfl
theorem vk_39_291_20 : VK 39 291 20 = some ((mJ20_intValue, 0)) := rfl
theorem vk_39_294_0 : VK 39 294 0 = some ((mX1_isAhead, 2)) := rfl
theorem vk_39_302_17 : VK 39 302 17 = some ((mJ32_add_2, 2)) := rfl
theorem vk_39_306_13 : VK 39 306 13 = some ((mJ3_append_2, 1)) := rfl
theorem vk_39_312_14 : VK 39 312 14 = some ((mJ4_charAt, 1)) := rfl
theorem vk_39_318_13 : VK 39 318 13 = some ((mJ3_append_3, 1)) := rfl
theorem vk_39_321_7 : VK 39 321 7 = some ((mX8_written, 0)) := rfl
theorem vk_39_325_13 : VK 39 325 13 = some ((mJ3_append, 1)) := rfl
theorem vk_39_339_1 : VK 39 339 1 = some ((mX2_are, 1)) := rfl
theorem vk_39_360_1 : VK 39 360 1 = some ((mX2_open, 0)) := rfl
theorem vk_39_362_1 : VK 39 362 1 = some ((mX2_booked, 0)) := rfl
theorem vk_39_364_13 : VK 39 364 13 = some ((mJ3_length, 0)) := rfl
theorem vk_39_383_10 : VK 39 383 10 = some ((mX11_text, 0)) := rfl
theorem vk_39_387_13 : VK 39 387 13 = some ((mJ3_setLength, 1)) := rfl
theorem vk_39_395_0 : VK 39 395 0 = some ((mX1_taken, 0)) := rfl
theorem vk_39_402_12 : VK 39 402 12 = some ((mJ1_isEmpty, 0)) := rfl
theorem vk_39_403_12 : VK 39 403 12 = some ((mJ1_pop, 0)) := rfl
theorem vk_39_409_12 : VK 39 409 12 = some ((mJ1_clear, 0)) := rfl
theorem vk_48_50_2 : VK 48 50 2 = some ((mX3_left, 2)) := rfl
theorem vk_44_24_14 : VK 44 24 14 = some ((mJ4_hashCode, 0)) := rfl
theorem vk_44_32_14 : VK 44 32 14 = some ((mJ4_equals, 1)) := rfl
theorem vk_44_54_1 : VK 44 54 1 = some ((mX2_plan, 1)) := rfl
theorem vk_44_60_5 : VK 44 60 5 = some ((mX6_step, 1)) := rfl
theorem vk_44_63_1 : VK 44 63 1 = some ((mX2_addStep, 2)) := rfl
theorem vk_44_67_1 : VK 44 67 1 = some ((mX2_start, 1)) := rfl
theorem vk_44_79_4 : VK 44 79 4 = some ((mX5_callBack, 0)) := rfl
theorem vk_44_82_1 : VK 44 82 1 = some ((mX2_shut, 2)) := rfl
theorem vk_44_85_1 : VK 44 85 1 = some ((mX2_dear, 2)) := rfl
theorem vk_44_88_1 : VK 44 88 1 = some ((mX2_pass, 1)) := rfl
theorem vk_49_23_13 : VK 49 23 13 = some ((mJ3_length, 0)) := rfl
theorem vk_49_29_13 : VK 49 29 13 = some ((mJ3_charAt, 1)) := rfl
theorem vk_49_37_10 : VK 49 37 10 = some ((mX11_isAt, 2)) := rfl
theorem vk_49_46_10 : VK 49 46 10 = some ((mX11_take, 2)) := rfl
theorem vk_49_55_13 : VK 49 55 13 = some ((mJ3_append, 1)) := rfl
theorem vk_49_59_13 : VK 49 59 13 = some ((mJ3_toString, 0)) := rfl
theorem vk_49_63_14 : VK 49 63 14 = some ((mJ4_contains, 1)) := rfl
theorem vk_49_69_13 : VK 49 69 13 = some ((mJ3_append_3, 1)) := rfl
theorem vk_49_72_14 : VK 49 72 14 = some ((mJ4_substring, 1)) := rfl
theorem vk_49_76_10 : VK 49 76 10 = some ((mX11_word, 0)) := rfl
theorem vk_49_81_14 : VK 49 81 14 = some ((mJ4_equals, 1)) := rfl
theorem vk_49_85_10 : VK 49 85 10 = some ((mX11_number, 2)) := rfl
theorem vk_49_89_14 : VK 49 89 14 = some ((mJ4_hashCode, 0)) := rfl
theorem vk_49_106_10 : VK 49 106 10 = some ((mX11_command, 0)) := rfl
theorem vk_46_29_14 : VK 46 29 14 = some ((mJ4_charAt, 1)) := rfl
theorem vk_46_35_13 : VK 46 35 13 = some ((mJ3_append_3, 1)) := rfl
theorem vk_46_41_13 : VK 46 41 13 = some ((mJ3_append, 1)) := rfl
theorem vk_46_44_13 : VK 46 44 13 = some ((mJ3_append_2, 1)) := rfl
theorem vk_46_51_13 : VK 46 51 13 = some ((mJ3_toString, 0)) := rfl
theorem vk_40_93_7 : VK 40 93 7 = some ((mX8_kind, 0)) := rfl
theorem vk_40_102_7 : VK 40 102 7 = some ((mX8_many, 0)) := rfl
theorem vk_40_105_7 : VK 40 105 7 = some ((mX8_town, 0)) := rfl
theorem vk_40_134_7 : VK 40 134 7 = some ((mX8_day, 0)) := rfl
theorem vk_40_140_4 : VK 40 140 4 = some ((mX5_add, 1)) := rfl
theorem vk_40_146_4 : VK 40 146 4 = some ((mX5_start, 0)) := rfl
theorem vk_40_149_1 : VK 40 149 1 = some ((mX2_are, 1)) := rfl
theorem vk_40_156_1 : VK 40 156 1 = some ((mX2_open, 0)) := rfl
theorem vk_40_159_4 : VK 40 159 4 = some ((mX5_isOnTheWay, 0)) := rfl
theorem vk_40_162_4 : VK 40 162 4 = some ((mX5_live, 0)) := rfl
theorem vk_40_165_4 : VK 40 165 4 = some ((mX5_isOver, 0)) := rfl
theorem vk_40_168_1 : VK 40 168 1 = some ((mX2_live, 0)) := rfl
theorem vk_43_73_4 : VK 43 73 4 = some ((mX5_allowHow, 1)) := rfl
theorem vk_43_82_8 : VK 43 82 8 = some ((mX9_iterator, 0)) := rfl
theorem vk_43_98_7 : VK 43 98 7 = some ((mX8_isLike, 1)) := rfl
theorem vk_43_113_4 : VK 43 113 4 = some ((mX5_turn, 0)) := rfl
theorem vk_43_124_8 : VK 43 124 8 = some ((mX9_next_2, 0)) := rfl
theorem vk_43_132_7 : VK 43 132 7 = some ((mX8_town, 0)) := rfl
theorem vk_43_137_7 : VK 43 137 7 = some ((mX8_kind, 0)) := rfl
theorem vk_43_140_7 : VK 43 140 7 = some ((mX8_day, 0)) := rfl
theorem vk_43_143_2 : VK 43 143 2 = some ((mX3_left, 2)) := rfl
theorem vk_43_147_7 : VK 43 147 7 = some ((mX8_many, 0)) := rfl
theorem vk_43_154_1 : VK 43 154 1 = some ((mX2_price, 1)) := rfl
theorem vk_43_165_2 : VK 43 165 2 = some ((mX3_take, 2)) := rfl
theorem vk_43_169_4 : VK 43 169 4 = some ((mX5_finish, 0)) := rfl
theorem vk_43_175_1 : VK 43 175 1 = some ((mX2_earn, 1)) := rfl
theorem vk_43_181_4 : VK 43 181 4 = some ((mX5_fault, 0)) := rfl
theorem vk_43_190_4 : VK 43 190 4 = some ((mX5_book, 0)) := rfl
theorem vk_43_193_4 : VK 43 193 4 = some ((mX5_undoStep, 0)) := rfl
theorem vk_41_37_7 : VK 41 37 7 = some ((mX8_kind, 0)) := rfl
theorem vk_41_43_7 : VK 41 43 7 = some ((mX8_day, 0)) := rfl
theorem vk_47_34_8 : VK 47 34 8 = some ((mX9_hasNext, 0)) := rfl
theorem vk_47_48_8 : VK 47 48 8 = some ((mX9_next_2, 0)) := rfl
theorem vk_38_7_0 : VK 38 7 0 = some ((mX1_tour, 1)) := rfl
theorem vk_38_17_0 : VK 38 17 0 = some ((mX1_step, 5)) := rfl
theorem vk_38_23_0 : VK 38 23 0 = some ((mX1_start, 1)) := rfl
theorem vk_38_26_0 : VK 38 26 0 = some ((mX1_back, 1)) := rfl
theorem vk_38_29_0 : VK 38 29 0 = some ((mX1_tourOf, 2)) := rfl
theorem vk_38_33_0 : VK 38 33 0 = some ((mX1_stepOf, 3)) := rfl
theorem vk_38_37_0 : VK 38 37 0 = some ((mX1_shut, 2)) := rfl
theorem vk_38_41_0 : VK 38 41 0 = some ((mX1_dear, 2)) := rfl
theorem vk_38_44_0 : VK 38 44 0 = some ((mX1_townOf, 2)) := rfl
theorem vk_38_47_0 : VK 38 47 0 = some ((mX1_pass, 1)) := rfl
theorem vk_38_50_0 : VK 38 50 0 = some ((mX1_left, 3)) := rfl
theorem vk_38_53_0 : VK 38 53 0 = some ((mX1_leftAgain, 3)) := rfl
theorem vk_38_56_0 : VK 38 56 0 = some ((mX1_faultOf, 1)) := rfl
theorem vk_38_61_0 : VK 38 61 0 = some ((mX1_endsIn, 1)) := rfl
theorem vk_38_64_0 : VK 38 64 0 = some ((mX1_costs, 1)) := rfl
theorem vk_38_67_0 : VK 38 67 0 = some ((mX1_cheapest, 3)) := rfl
theorem vk_38_70_0 : VK 38 70 0 = some ((mX1_ranked, 1)) := rfl
theorem vk_38_73_0 : VK 38 73 0 = some ((mX1_line, 1)) := rfl
theorem vk_38_76_0 : VK 38 76 0 = some ((mX1_character, 1)) := rfl
theorem vk_38_80_0 : VK 38 80 0 = some ((mX1_number, 1)) := rfl
theorem vk_38_83_0 : VK 38 83 0 = some ((mX1_meanSteps, 0)) := rfl
theorem vk_38_89_0 : VK 38 89 0 = some ((mX1_failedShare, 0)) := rfl
theorem vk_38_93_0 : VK 38 93 0 = some ((mX1_feed, 1)) := rfl
theorem vk_38_99_0 : VK 38 99 0 = some ((mX1_read, 0)) := rfl
theorem vk_38_103_0 : VK 38 103 0 = some ((mX1_faultPosition, 0)) := rfl
theorem vk_38_106_0 : VK 38 106 0 = some ((mX1_refusal, 1)) := rfl
theorem vk_38_110_0 : VK 38 110 0 = some ((mX1_undo, 0)) := rfl
theorem vk_38_113_0 : VK 38 113 0 = some ((mX1_restoreSnapshot, 0)) := rfl
theorem vk_38_125_3 : VK 38 125 3 = some ((mX4_tour, 1)) := rfl
theorem vk_38_126_3 : VK 38 126 3 = some ((mX4_thrown, 0)) := rfl
theorem vk_38_132_3 : VK 38 132 3 = some ((mX4_step, 5)) := rfl
theorem vk_38_135_3 : VK 38 135 3 = some ((mX4_start, 1)) := rfl
theorem vk_38_138_3 : VK 38 138 3 = some ((mX4_back, 1)) := rfl
theorem vk_38_142_3 : VK 38 142 3 = some ((mX4_tourOf, 2)) := rfl
theorem vk_38_146_3 : VK 38 146 3 = some ((mX4_stepOf, 3)) := rfl
theorem vk_38_150_3 : VK 38 150 3 = some ((mX4_shut, 2)) := rfl
theorem vk_38_153_3 : VK 38 153 3 = some ((mX4_dear, 2)) := rfl
theorem vk_38_156_3 : VK 38 156 3 = some ((mX4_townOf, 2)) := rfl
theorem vk_38_159_3 : VK 38 159 3 = some ((mX4_pass, 1)) := rfl
theorem vk_38_162_3 : VK 38 162 3 = some ((mX4_left, 3)) := rfl
theorem vk_38_165_3 : VK 38 165 3 = some ((mX4_leftAgain, 3)) := rfl
theorem vk_38_168_3 : VK 38 168 3 = some ((mX4_faultOf, 1)) := rfl
theorem vk_38_171_3 : VK 38 171 3 = some ((mX4_endsIn, 1)) := rfl
theorem vk_38_174_3 : VK 38 174 3 = some ((mX4_costs, 1)) := rfl
theorem vk_38_177_3 : VK 38 177 3 = some ((mX4_cheapest, 3)) := rfl
theorem vk_38_180_3 : VK 38 180 3 = some ((mX4_ranked, 1)) := rfl
theorem vk_38_183_3 : VK 38 183 3 = some ((mX4_line, 1)) := rfl
theorem vk_38_186_3 : VK 38 186 3 = some ((mX4_character, 1)) := rfl
theorem vk_38_189_3 : VK 38 189 3 = some ((mX4_number, 1)) := rfl
theorem vk_38_190_0 : VK 38 190 0 = some ((mX1_coinsAgain, 0)) := rfl
theorem vk_38_193_3 : VK 38 193 3 = some ((mX4_coinsAgain, 0)) := rfl
theorem vk_38_197_3 : VK 38 197 3 = some ((mX4_meanSteps, 0)) := rfl
theorem vk_38_200_3 : VK 38 200 3 = some ((mX4_failedShare, 0)) := rfl
theorem vk_38_204_3 : VK 38 204 3 = some ((mX4_feed, 1)) := rfl
theorem vk_38_208_3 : VK 38 208 3 = some ((mX4_read, 0)) := rfl
theorem vk_38_211_3 : VK 38 211 3 = some ((mX4_faultPosition, 0)) := rfl
theorem vk_38_215_3 : VK 38 215 3 = some ((mX4_refusal, 1)) := rfl
theorem vk_38_218_3 : VK 38 218 3 = some ((mX4_undo, 0)) := rfl
theorem vk_38_219_0 : VK 38 219 0 = some ((mX1_saveSnapshot, 0)) := rfl
theorem vk_38_222_3 : VK 38 222 3 = some ((mX4_saveSnapshot, 0)) := rfl
theorem vk_38_225_3 : VK 38 225 3 = some ((mX4_restoreSnapshot, 0)) := rfl
theorem vk_42_64_3 : VK 42 64 3 = some ((mX4_of, 2)) := rfl
theorem vk_42_68_3 : VK 42 68 3 = some ((mX4_isShut, 1)) := rfl
theorem vk_42_72_3 : VK 42 72 3 = some ((mX4_refuses, 2)) := rfl
theorem vk_42_75_3 : VK 42 75 3 = some ((mX4_sets, 3)) := rfl
theorem vk_42_79_3 : VK 42 79 3 = some ((mX4_does, 1)) := rfl
theorem vk_42_83_3 : VK 42 83 3 = some ((mX4_tries, 0)) := rfl
theorem vk_42_86_3 : VK 42 86 3 = some ((mX4_plans, 1)) := rfl
theorem vk_42_89_3 : VK 42 89 3 = some ((mX4_keeps, 1)) := rfl
theorem vk_42_92_3 : VK 42 92 3 = some ((mX4_raises, 1)) := rfl
theorem vk_42_95_3 : VK 42 95 3 = some ((mX4_isTour, 1)) := rfl
theorem vk_42_107_3 : VK 42 107 3 = some ((mX4_step_2, 3)) := rfl
theorem vk_42_111_3 : VK 42 111 3 = some ((mX4_steps, 5)) := rfl
theorem vk_42_115_3 : VK 42 115 3 = some ((mX4_toursThat, 1)) := rfl
theorem vk_42_118_3 : VK 42 118 3 = some ((mX4_starts, 1)) := rfl
theorem vk_42_121_3 : VK 42 121 3 = some ((mX4_endsAt, 1)) := rfl
theorem vk_42_124_3 : VK 42 124 3 = some ((mX4_turnsBack, 1)) := rfl
theorem vk_42_128_3 : VK 42 128 3 = some ((mX4_callsBack, 1)) := rfl
theorem vk_42_131_3 : VK 42 131 3 = some ((mX4_openTowns, 0)) := rfl
theorem vk_42_135_3 : VK 42 135 3 = some ((mX4_shuts, 2)) := rfl
theorem vk_42_139_3 : VK 42 139 3 = some ((mX4_dearness, 1)) := rfl
theorem vk_42_142_3 : VK 42 142 3 = some ((mX4_booked, 1)) := rfl
theorem vk_42_145_3 : VK 42 145 3 = some ((mX4_leftOf, 3)) := rfl
theorem vk_42_148_3 : VK 42 148 3 = some ((mX4_price, 2)) := rfl
theorem vk_42_151_3 : VK 42 151 3 = some ((mX4_gets, 1)) := rfl
theorem vk_42_154_3 : VK 42 154 3 = some ((mX4_nextFault, 1)) := rfl
theorem vk_42_157_3 : VK 42 157 3 = some ((mX4_books, 1)) := rfl
theorem vk_42_160_3 : VK 42 160 3 = some ((mX4_unbooks, 1)) := rfl
theorem vk_42_163_3 : VK 42 163 3 = some ((mX4_goesOn, 1)) := rfl
theorem vk_42_166_3 : VK 42 166 3 = some ((mX4_makesTry, 1)) := rfl
theorem vk_42_169_3 : VK 42 169 3 = some ((mX4_hourGoes, 0)) := rfl
theorem vk_42_172_3 : VK 42 172 3 = some ((mX4_passes, 1)) := rfl
theorem vk_42_175_3 : VK 42 175 3 = some ((mX4_left, 3)) := rfl
theorem vk_42_178_3 : VK 42 178 3 = some ((mX4_isAhead, 2)) := rfl
theorem vk_42_185_3 : VK 42 185 3 = some ((mX4_writesNumber, 1)) := rfl
theorem vk_42_190_14 : VK 42 190 14 = some ((mJ4_charAt, 1)) := rfl
theorem vk_42_204_14 : VK 42 204 14 = some ((mJ4_length, 0)) := rfl
theorem vk_42_206_14 : VK 42 206 14 = some ((mJ4_indexOf_2, 2)) := rfl
theorem vk_42_209_14 : VK 42 209 14 = some ((mJ4_substring_2, 2)) := rfl
theorem vk_42_218_3 : VK 42 218 3 = some ((mX4_number_2, 2)) := rfl
theorem vk_42_221_3 : VK 42 221 3 = some ((mX4_takes, 1)) := rfl
theorem vk_42_227_3 : VK 42 227 3 = some ((mX4_isOneOf, 1)) := rfl
theorem vk_42_231_14 : VK 42 231 14 = some ((mJ4_hashCode, 0)) := rfl
theorem vk_42_236_14 : VK 42 236 14 = some ((mJ4_equals, 1)) := rfl
theorem vk_42_246_3 : VK 42 246 3 = some ((mX4_isPlace, 0)) := rfl
theorem vk_42_260_3 : VK 42 260 3 = some ((mX4_isCommand, 0)) := rfl
theorem vk_42_263_3 : VK 42 263 3 = some ((mX4_carries, 0)) := rfl
theorem vk_42_266_3 : VK 42 266 3 = some ((mX4_comesBack, 0)) := rfl
theorem vk_2_32_14 : VK 2 32 14 = some ((mJ4_length, 0)) := rfl
theorem vk_2_40_14 : VK 2 40 14 = some ((mJ4_coder, 0)) := rfl
theorem vk_2_83_13 : VK 2 83 13 = some ((mJ2_isLatin1, 0)) := rfl
theorem vk_2_100_13 : VK 2 100 13 = some ((mJ2_ensureCapacityInternal, 1)) := rfl
theorem vk_2_104_13 : VK 2 104 13 = some ((mJ2_newCapacity, 1)) := rfl
theorem vk_2_195_13 : VK 2 195 13 = some ((mJ2_inflate, 0)) := rfl
theorem vk_2_208_13 : VK 2 208 13 = some ((mJ2_putStringAt, 2)) := rfl
theorem vk_2_397_13 : VK 2 397 13 = some ((mJ2_inflateIfNeededFor, 1)) := rfl
theorem vk_2_399_14 : VK 2 399 14 = some ((mJ4_getBytes, 3)) := rfl
theorem vk_30_15_13 : VK 30 15 13 = some ((mJ3_append, 1)) := rfl
theorem vk_30_19_13 : VK 30 19 13 = some ((mJ3_append_2, 1)) := rfl
theorem vk_30_22_13 : VK 30 22 13 = some ((mJ3_toString, 0)) := rfl
theorem vk_4_335_14 : VK 4 335 14 = some ((mJ4_coder, 0)) := rfl
theorem vk_4_492_14 : VK 4 492 14 = some ((mJ4_isLatin1, 0)) := rfl
theorem vk_4_505_14 : VK 4 505 14 = some ((mJ4_length, 0)) := rfl
theorem vk_4_552_13 : VK 4 552 13 = some ((mJ2_getValue, 0)) := rfl
theorem vk_4_681_14 : VK 4 681 14 = some ((mJ4_substring_2, 2)) := rfl
theorem vk_4_711_14 : VK 4 711 14 = some ((mJ4_indexOf, 1)) := rfl
theorem vk_4_1047_13 : VK 4 1047 13 = some ((mJ2_isLatin1, 0)) := rfl
theorem vk_4_549_13 : VK 4 549 13 = some ((mJ3_length, 0)) := rfl
theorem vk_34_15_13 : VK 34 15 13 = some ((mJ3_append, 1)) := rfl
theorem vk_34_19_13 : VK 34 19 13 = some ((mJ3_append_2, 1)) := rfl
theorem vk_34_22_13 : VK 34 22 13 = some ((mJ3_toString, 0)) := rfl
theorem vk_13_35_6 : VK 13 35 6 = some ((mJ13_toString, 0)) := rfl
theorem vk_13_35_11 : VK 13 35 11 = some ((mJ13_toString, 0)) := rfl
theorem vk_13_39_6 : VK 13 39 6 = some ((mJ13_getMessage, 0)) := rfl
theorem vk_13_39_11 : VK 13 39 11 = some ((mJ13_getMessage, 0)) := rfl
theorem vk_13_49_13 : VK 13 49 13 = some ((mJ3_append, 1)) := rfl
theorem vk_13_60_13 : VK 13 60 13 = some ((mJ3_toString, 0)) := rfl
theorem vk_13_78_6 : VK 13 78 6 = some ((mJ13_getLocalizedMessage, 0)) := rfl
theorem vk_13_78_11 : VK 13 78 11 = some ((mJ13_getLocalizedMessage, 0)) := rfl
theorem vk_1_10_12 : VK 1 10 12 = some ((mJ1_newCapacity, 2)) := rfl
theorem vk_1_71_12 : VK 1 71 12 = some ((mJ1_grow, 1)) := rfl
theorem vk_1_86_12 : VK 1 86 12 = some ((mJ1_addFirst, 1)) := rfl
theorem vk_1_93_12 : VK 1 93 12 = some ((mJ1_pollFirst, 0)) := rfl
theorem vk_1_100_12 : VK 1 100 12 = some ((mJ1_pollLast, 0)) := rfl
theorem vk_1_118_12 : VK 1 118 12 = some ((mJ1_removeFirst, 0)) := rfl
theorem vk_1_189_12 : VK 1 189 12 = some ((mJ1_toArray_2, 1)) := rfl
theorem vk_7_25_13 : VK 7 25 13 = some ((mJ3_append, 1)) := rfl
theorem vk_7_29_13 : VK 7 29 13 = some ((mJ3_append_2, 1)) := rfl
theorem vk_7_32_13 : VK 7 32 13 = some ((mJ3_toString, 0)) := rfl
theorem vk_7_69_15 : VK 7 69 15 = some ((mJ7_grow_2, 1)) := rfl
theorem vk_7_123_15 : VK 7 123 15 = some ((mJ7_elementData, 1)) := rfl
theorem vk_7_129_15 : VK 7 129 15 = some ((mJ7_grow, 0)) := rfl
theorem vk_7_131_15 : VK 7 131 15 = some ((mJ7_add_2, 3)) := rfl
theorem vk_7_135_15 : VK 7 135 15 = some ((mJ7_rangeCheckForAdd, 1)) := rfl
theorem vk_7_198_15 : VK 7 198 15 = some ((mJ7_outOfBoundsMsg, 1)) := rfl
theorem vk_12_31_16 : VK 12 31 16 = some ((mJ12_checkForComodification, 0)) := rfl
theorem vk_10_50_13 : VK 10 50 13 = some ((mJ3_append, 1)) := rfl
theorem vk_10_54_13 : VK 10 54 13 = some ((mJ3_append_2, 1)) := rfl
theorem vk_10_61_13 : VK 10 61 13 = some ((mJ3_toString, 0)) := rfl
theorem vk_32_57_17 : VK 32 57 17 = some ((mJ32_linkLast, 1)) := rfl
theorem vk_32_73_17 : VK 32 73 17 = some ((mJ32_addAll_2, 2)) := rfl
theorem vk_32_76_17 : VK 32 76 17 = some ((mJ32_checkPositionIndex, 1)) := rfl
theorem vk_32_86_17 : VK 32 86 17 = some ((mJ32_node, 1)) := rfl
theorem vk_32_90_17 : VK 32 90 17 = some ((mJ32_checkElementIndex, 1)) := rfl
theorem vk_32_93_17 : VK 32 93 17 = some ((mJ32_linkBefore, 2)) := rfl
theorem vk_32_102_13 : VK 32 102 13 = some ((mJ3_append, 1)) := rfl
theorem vk_32_106_13 : VK 32 106 13 = some ((mJ3_append_2, 1)) := rfl
theorem vk_32_111_13 : VK 32 111 13 = some ((mJ3_toString, 0)) := rfl
theorem vk_32_115_17 : VK 32 115 17 = some ((mJ32_isElementIndex, 1)) := rfl
theorem vk_32_121_17 : VK 32 121 17 = some ((mJ32_outOfBoundsMsg, 1)) := rfl
theorem vk_32_128_17 : VK 32 128 17 = some ((mJ32_isPositionIndex, 1)) := rfl
theorem vk_24_25_17 : VK 24 25 17 = some ((mJ32_node, 1)) := rfl
theorem vk_24_36_19 : VK 24 36 19 = some ((mJ24_checkForComodification, 0)) := rfl
theorem vk_24_39_19 : VK 24 39 19 = some ((mJ24_hasNext, 0)) := rfl
theorem vk_8_94_13 : VK 8 94 13 = some ((mJ3_append, 1)) := rfl
theorem vk_8_98_13 : VK 8 98 13 = some ((mJ3_append_2, 1)) := rfl
theorem vk_8_101_13 : VK 8 101 13 = some ((mJ3_toString, 0)) := rfl
theorem vk_0_7_12 : VK 0 7 12 = some ((mJ1_size, 0)) := rfl
theorem vk_0_7_15 : VK 0 7 15 = some ((mJ7_size, 0)) := rfl
theorem vk_0_7_17 : VK 0 7 17 = some ((mJ32_size, 0)) := rfl
theorem vk_6_47_15 : VK 6 47 15 = some ((mJ7_listIterator, 1)) := rfl
theorem vk_6_47_17 : VK 6 47 17 = some ((mJ32_listIterator, 1)) := rfl
theorem vk_22_28_15 : VK 22 28 15 = some ((mJ7_size, 0)) := rfl
theorem vk_22_28_17 : VK 22 28 17 = some ((mJ32_size, 0)) := rfl
theorem vk_22_35_15 : VK 22 35 15 = some ((mJ7_get, 1)) := rfl
theorem vk_22_35_17 : VK 22 35 17 = some ((mJ32_get, 1)) := rfl
theorem vk_31_65_17 : VK 31 65 17 = some ((mJ6_listIterator, 0)) := rfl
def IF40_0 : List (Nat × Nat × (MI × Nat)) := [(28, 15, (mJ7_add, 1)), (28, 17, (mJ32_add, 1)), (34, 15, (mJ7_iterator, 0)), (34, 17, (mJ31_iterator, 0)), (38, 8, (mX9_hasNext, 0)), (38, 16, (mJ12_hasNext, 0)), (38, 19, (mJ24_hasNext, 0)), (44, 8, (mX9_next, 0)), (44, 16, (mJ12_next, 0)), (44, 19, (mJ24_next, 0)), (77, 15, (mJ7_size, 0)), (77, 17, (mJ32_size, 0)), (89, 15, (mJ7_get, 1)), (89, 17, (mJ32_get, 1))]
theorem IF40_0_ok (X : XT) : ∀ r ∈ IF40_0, IFS (mkG X) (cn 40) r.1 r.2.1 r.2.2.1 r.2.2.2 := (List.forall_mem_cons.mpr ⟨⟨kJ7_add, q260, _, ⟨"java/util/List", "add", "(Ljava/lang/Object;)Z"⟩, rfl, rfl, q254, q258, List.mem_of_getElem? (i := 0) rfl⟩, (List.forall_mem_cons.mpr ⟨⟨kJ32_add, q340, _, ⟨"java/util/List", "add", "(Ljava/lang/Object;)Z"⟩, rfl, rfl, q254, q338, List.mem_of_getElem? (i := 1) rfl⟩, (List.forall_mem_cons.mpr ⟨⟨kJ7_iterator, q470, _, ⟨"java/util/List", "iterator", "()Ljava/util/Iterator;"⟩, rfl, rfl, q465, q468, List.mem_of_getElem? (i := 2) rfl⟩, (List.forall_mem_cons.mpr ⟨⟨kJ31_iterator, q496, _, ⟨"java/util/List", "iterator", "()Ljava/util/Iterator;"⟩, rfl, rfl, q465, q494, List.mem_of_getElem? (i := 3) rfl⟩, (List.forall_mem_cons.mpr ⟨⟨kX9_hasNext, q882, _, ⟨"java/util/Iterator", "hasNext", "()Z"⟩, rfl, rfl, q876, q880, List.mem_of_getElem? (i := 4) rfl⟩, (List.forall_mem_cons.mpr ⟨⟨kJ12_hasNext, q903, _, ⟨"java/util/Iterator", "hasNext", "()Z"⟩, rfl, rfl, q876, q901, List.mem_of_getElem? (i := 5) rfl⟩, (List.forall_mem_cons.mpr ⟨⟨kJ24_hasNext, q912, _, ⟨"java/util/Iterator", "hasNext", "()Z"⟩, rfl, rfl, q876, q910, List.mem_of_getElem? (i := 6) rfl⟩, (List.forall_mem_cons.mpr ⟨⟨kX9_next, q921, _, ⟨"java/util/Iterator", "next", "()Ljava/lang/Object;"⟩, rfl, rfl, q916, q919, List.mem_of_getElem? (i := 7) rfl⟩, (List.forall_mem_cons.mpr ⟨⟨kJ12_next, q1065, _, ⟨"java/util/Iterator", "next", "()Ljava/lang/Object;"⟩, rfl, rfl, q916, q1063, List.mem_of_getElem? (i := 8) rfl⟩, (List.forall_mem_cons.mpr ⟨⟨kJ24_next, q1080, _, ⟨"java/util/Iterator", "next", "()Ljava/lang/Object;"⟩, rfl, rfl, q916, q1078, List.mem_of_getElem? (i := 9) rfl⟩, (List.forall_mem_cons.mpr ⟨⟨kJ7_size, q895, _, ⟨"java/util/List", "size", "()I"⟩, rfl, rfl, q1346, q1213, List.mem_of_getElem? (i := 17) rfl⟩, (List.forall_mem_cons.mpr ⟨⟨kJ32_size, q898, _, ⟨"java/util/List", "size", "()I"⟩, rfl, rfl, q1346, q1216, List.mem_of_getElem? (i := 18) rfl⟩, (List.forall_mem_cons.mpr ⟨⟨kJ7_get, q959, _, ⟨"java/util/List", "get", "(I)Ljava/lang/Object;"⟩, rfl, rfl, q1420, q957, List.mem_of_getElem? (i := 10) rfl⟩, (List.forall_mem_cons.mpr ⟨⟨kJ32_get, q974, _, ⟨"java/util/List", "get", "(I)Ljava/lang/Object;"⟩, rfl, rfl, q1420, q972, List.mem_of_getElem? (i := 11) rfl⟩, (fun _ h => nomatch h)⟩)⟩)⟩)⟩)⟩)⟩)⟩)⟩)⟩)⟩)⟩)⟩)⟩)⟩)
def IF40 : List (Nat × Nat × (MI × Nat)) := IF40_0
theorem IF40_ok (X : XT) : ∀ r ∈ IF40, IFS (mkG X) (cn 40) r.1 r.2.1 r.2.2.1 r.2.2.2 := IF40_0_ok X
def IF47_0 : List (Nat × Nat × (MI × Nat)) := [(42, 15, (mJ7_get, 1)), (42, 17, (mJ32_get, 1)), (3, 15, (mJ7_size, 0)), (3, 17, (mJ32_size, 0))]
theorem IF47_0_ok (X : XT) : ∀ r ∈ IF47_0, IFS (mkG X) (cn 47) r.1 r.2.1 r.2.2.1 r.2.2.2 := (List.forall_mem_cons.mpr ⟨⟨kJ7_get, q959, _, ⟨"java/util/List", "get", "(I)Ljava/lang/Object;"⟩, rfl, rfl, q954, q957, List.mem_of_getElem? (i := 10) rfl⟩, (List.forall_mem_cons.mpr ⟨⟨kJ32_get, q974, _, ⟨"java/util/List", "get", "(I)Ljava/lang/Object;"⟩, rfl, rfl, q954, q972, List.mem_of_getElem? (i := 11) rfl⟩, (List.forall_mem_cons.mpr ⟨⟨kJ7_size, q895, _, ⟨"java/util/List", "size", "()I"⟩, rfl, rfl, q1455, q1213, List.mem_of_getElem? (i := 17) rfl⟩, (List.forall_mem_cons.mpr ⟨⟨kJ32_size, q898, _, ⟨"java/util/List", "size", "()I"⟩, rfl, rfl, q1455, q1216, List.mem_of_getElem? (i := 18) rfl⟩, (fun _ h => nomatch h)⟩)⟩)⟩)⟩)
def IF47 : List (Nat × Nat × (MI × Nat)) := IF47_0
theorem IF47_ok (X : XT) : ∀ r ∈ IF47, IFS (mkG X) (cn 47) r.1 r.2.1 r.2.2.1 r.2.2.2 := IF47_0_ok X
def IF43_0 : List (Nat × Nat × (MI × Nat)) := [(36, 15, (mJ7_addAll, 1)), (36, 17, (mJ32_addAll, 1)), (86, 8, (mX9_hasNext, 0)), (86, 16, (mJ12_hasNext, 0)), (86, 19, (mJ24_hasNext, 0)), (92, 8, (mX9_next, 0)), (92, 16, (mJ12_next, 0)), (92, 19, (mJ24_next, 0)), (102, 15, (mJ7_size, 0)), (102, 17, (mJ32_size, 0)), (106, 15, (mJ7_add, 1)), (106, 17, (mJ32_add, 1)), (110, 15, (mJ7_isEmpty, 0)), (110, 17, (mJ0_isEmpty, 0)), (116, 15, (mJ7_get, 1)), (116, 17, (mJ32_get, 1))]
theorem IF43_0_ok (X : XT) : ∀ r ∈ IF43_0, IFS (mkG X) (cn 43) r.1 r.2.1 r.2.2.1 r.2.2.2 := (List.forall_mem_cons.mpr ⟨⟨kJ7_addAll, q1161, _, ⟨"java/util/List", "addAll", "(Ljava/util/Collection;)Z"⟩, rfl, rfl, q1156, q1159, List.mem_of_getElem? (i := 12) rfl⟩, (List.forall_mem_cons.mpr ⟨⟨kJ32_addAll, q1199, _, ⟨"java/util/List", "addAll", "(Ljava/util/Collection;)Z"⟩, rfl, rfl, q1156, q1197, List.mem_of_getElem? (i := 13) rfl⟩, (List.forall_mem_cons.mpr ⟨⟨kX9_hasNext, q882, _, ⟨"java/util/Iterator", "hasNext", "()Z"⟩, rfl, rfl, q1478, q880, List.mem_of_getElem? (i := 4) rfl⟩, (List.forall_mem_cons.mpr ⟨⟨kJ12_hasNext, q903, _, ⟨"java/util/Iterator", "hasNext", "()Z"⟩, rfl, rfl, q1478, q901, List.mem_of_getElem? (i := 5) rfl⟩, (List.forall_mem_cons.mpr ⟨⟨kJ24_hasNext, q912, _, ⟨"java/util/Iterator", "hasNext", "()Z"⟩, rfl, rfl, q1478, q910, List.mem_of_getElem? (i := 6) rfl⟩, (List.forall_mem_cons.mpr ⟨⟨kX9_next, q921, _, ⟨"java/util/Iterator", "next", "()Ljava/lang/Object;"⟩, rfl, rfl, q1480, q919, List.mem_of_getElem? (i := 7) rfl⟩, (List.forall_mem_cons.mpr ⟨⟨kJ12_next, q1065, _, ⟨"java/util/Iterator", "next", "()Ljava/lang/Object;"⟩, rfl, rfl, q1480, q1063, List.mem_of_getElem? (i := 8) rfl⟩, (List.forall_mem_cons.mpr ⟨⟨kJ24_next, q1080, _, ⟨"java/util/Iterator", "next", "()Ljava/lang/Object;"⟩, rfl, rfl, q1480, q1078, List.mem_of_getElem? (i := 9) rfl⟩, (List.forall_mem_cons.mpr ⟨⟨kJ7_size, q895, _, ⟨"java/util/List", "size", "()I"⟩, rfl, rfl, q1487, q1213, List.mem_of_getElem? (i := 17) rfl⟩, (List.forall_mem_cons.mpr ⟨⟨kJ32_size, q898, _, ⟨"java/util/List", "size", "()I"⟩, rfl, rfl, q1487, q1216, List.mem_of_getElem? (i := 18) rfl⟩, (List.forall_mem_cons.mpr ⟨⟨kJ7_add, q260, _, ⟨"java/util/List", "add", "(Ljava/lang/Object;)Z"⟩, rfl, rfl, q1489, q258, List.mem_of_getElem? (i := 0) rfl⟩, (List.forall_mem_cons.mpr ⟨⟨kJ32_add, q340, _, ⟨"java/util/List", "add", "(Ljava/lang/Object;)Z"⟩, rfl, rfl, q1489, q338, List.mem_of_getElem? (i := 1) rfl⟩, (List.forall_mem_cons.mpr ⟨⟨kJ7_isEmpty, q1504, _, ⟨"java/util/List", "isEmpty", "()Z"⟩, rfl, rfl, q1499, q1502, List.mem_of_getElem? (i := 19) rfl⟩, (List.forall_mem_cons.mpr ⟨⟨kJ0_isEmpty, q1509, _, ⟨"java/util/List", "isEmpty", "()Z"⟩, rfl, rfl, q1499, q1507, List.mem_of_getElem? (i := 20) rfl⟩, (List.forall_mem_cons.mpr ⟨⟨kJ7_get, q959, _, ⟨"java/util/List", "get", "(I)Ljava/lang/Object;"⟩, rfl, rfl, q1565, q957, List.mem_of_getElem? (i := 10) rfl⟩, (List.forall_mem_cons.mpr ⟨⟨kJ32_get, q974, _, ⟨"java/util/List", "get", "(I)Ljava/lang/Object;"⟩, rfl, rfl, q1565, q972, List.mem_of_getElem? (i := 11) rfl⟩, (fun _ h => nomatch h)⟩)⟩)⟩)⟩)⟩)⟩)⟩)⟩)⟩)⟩)⟩)⟩)⟩)⟩)⟩)⟩)
def IF43 : List (Nat × Nat × (MI × Nat)) := IF43_0
theorem IF43_ok (X : XT) : ∀ r ∈ IF43, IFS (mkG X) (cn 43) r.1 r.2.1 r.2.2.1 r.2.2.2 := IF43_0_ok X
def IF7_0 : List (Nat × Nat × (MI × Nat)) := [(42, 12, (mJ1_toArray, 0)), (42, 15, (mJ7_toArray, 0)), (42, 17, (mJ32_toArray, 0))]
theorem IF7_0_ok (X : XT) : ∀ r ∈ IF7_0, IFS (mkG X) (cn 7) r.1 r.2.1 r.2.2.1 r.2.2.2 := (List.forall_mem_cons.mpr ⟨⟨kJ1_toArray, q1171, _, ⟨"java/util/Collection", "toArray", "()[Ljava/lang/Object;"⟩, rfl, rfl, q1165, q1169, List.mem_of_getElem? (i := 14) rfl⟩, (List.forall_mem_cons.mpr ⟨⟨kJ7_toArray, q1186, _, ⟨"java/util/Collection", "toArray", "()[Ljava/lang/Object;"⟩, rfl, rfl, q1165, q1184, List.mem_of_getElem? (i := 15) rfl⟩, (List.forall_mem_cons.mpr ⟨⟨kJ32_toArray, q1192, _, ⟨"java/util/Collection", "toArray", "()[Ljava/lang/Object;"⟩, rfl, rfl, q1165, q1190, List.mem_of_getElem? (i := 16) rfl⟩, (fun _ h => nomatch h)⟩)⟩)⟩)
def IF7 : List (Nat × Nat × (MI × Nat)) := IF7_0
theorem IF7_ok (X : XT) : ∀ r ∈ IF7, IFS (mkG X) (cn 7) r.1 r.2.1 r.2.2.1 r.2.2.2 := IF7_0_ok X
def IF32_0 : List (Nat × Nat × (MI × Nat)) := [(80, 12, (mJ1_toArray, 0)), (80, 15, (mJ7_toArray, 0)), (80, 17, (mJ32_toArray, 0))]
theorem IF32_0_ok (X : XT) : ∀ r ∈ IF32_0, IFS (mkG X) (cn 32) r.1 r.2.1 r.2.2.1 r.2.2.2 := (List.forall_mem_cons.mpr ⟨⟨kJ1_toArray, q1171, _, ⟨"java/util/Collection", "toArray", "()[Ljava/lang/Object;"⟩, rfl, rfl, q1207, q1169, List.mem_of_getElem? (i := 14) rfl⟩, (List.forall_mem_cons.mpr ⟨⟨kJ7_toArray, q1186, _, ⟨"java/util/Collection", "toArray", "()[Ljava/lang/Object;"⟩, rfl, rfl, q1207, q1184, List.mem_of_getElem? (i := 15) rfl⟩, (List.forall_mem_cons.mpr ⟨⟨kJ32_toArray, q1192, _, ⟨"java/util/Collection", "toArray", "()[Ljava/lang/Object;"⟩, rfl, rfl, q1207, q1190, List.mem_of_getElem? (i := 16) rfl⟩, (fun _ h => nomatch h)⟩)⟩)⟩)
def IF32 : List (Nat × Nat × (MI × Nat)) := IF32_0
theorem IF32_ok (X : XT) : ∀ r ∈ IF32, IFS (mkG X) (cn 32) r.1 r.2.1 r.2.2.1 r.2.2.2 := IF32_0_ok X
def IF39_0 : List (Nat × Nat × (MI × Nat)) := [(146, 15, (mJ7_size, 0)), (146, 17, (mJ32_size, 0)), (191, 15, (mJ7_iterator, 0)), (191, 17, (mJ31_iterator, 0)), (195, 8, (mX9_hasNext, 0)), (195, 16, (mJ12_hasNext, 0)), (195, 19, (mJ24_hasNext, 0)), (201, 8, (mX9_next, 0)), (201, 16, (mJ12_next, 0)), (201, 19, (mJ24_next, 0)), (255, 15, (mJ7_get, 1)), (255, 17, (mJ32_get, 1)), (330, 14, (mJ4_length, 0)), (330, 13, (mJ3_length, 0)), (335, 14, (mJ4_charAt, 1)), (335, 13, (mJ3_charAt, 1)), (369, 15, (mJ7_isEmpty, 0)), (369, 17, (mJ0_isEmpty, 0))]
theorem IF39_0_ok (X : XT) : ∀ r ∈ IF39_0, IFS (mkG X) (cn 39) r.1 r.2.1 r.2.2.1 r.2.2.2 := (List.forall_mem_cons.mpr ⟨⟨kJ7_size, q895, _, ⟨"java/util/List", "size", "()I"⟩, rfl, rfl, q1210, q1213, List.mem_of_getElem? (i := 17) rfl⟩, (List.forall_mem_cons.mpr ⟨⟨kJ32_size, q898, _, ⟨"java/util/List", "size", "()I"⟩, rfl, rfl, q1210, q1216, List.mem_of_getElem? (i := 18) rfl⟩, (List.forall_mem_cons.mpr ⟨⟨kJ7_iterator, q470, _, ⟨"java/util/List", "iterator", "()Ljava/util/Iterator;"⟩, rfl, rfl, q1788, q468, List.mem_of_getElem? (i := 2) rfl⟩, (List.forall_mem_cons.mpr ⟨⟨kJ31_iterator, q496, _, ⟨"java/util/List", "iterator", "()Ljava/util/Iterator;"⟩, rfl, rfl, q1788, q494, List.mem_of_getElem? (i := 3) rfl⟩, (List.forall_mem_cons.mpr ⟨⟨kX9_hasNext, q882, _, ⟨"java/util/Iterator", "hasNext", "()Z"⟩, rfl, rfl, q1790, q880, List.mem_of_getElem? (i := 4) rfl⟩, (List.forall_mem_cons.mpr ⟨⟨kJ12_hasNext, q903, _, ⟨"java/util/Iterator", "hasNext", "()Z"⟩, rfl, rfl, q1790, q901, List.mem_of_getElem? (i := 5) rfl⟩, (List.forall_mem_cons.mpr ⟨⟨kJ24_hasNext, q912, _, ⟨"java/util/Iterator", "hasNext", "()Z"⟩, rfl, rfl, q1790, q910, List.mem_of_getElem? (i := 6) rfl⟩, (List.forall_mem_cons.mpr ⟨⟨kX9_next, q921, _, ⟨"java/util/Iterator", "next", "()Ljava/lang/Object;"⟩, rfl, rfl, q1792, q919, List.mem_of_getElem? (i := 7) rfl⟩, (List.forall_mem_cons.mpr ⟨⟨kJ12_next, q1065, _, ⟨"java/util/Iterator", "next", "()Ljava/lang/Object;"⟩, rfl, rfl, q1792, q1063, List.mem_of_getElem? (i := 8) rfl⟩, (List.forall_mem_cons.mpr ⟨⟨kJ24_next, q1080, _, ⟨"java/util/Iterator", "next", "()Ljava/lang/Object;"⟩, rfl, rfl, q1792, q1078, List.mem_of_getElem? (i := 9) rfl⟩, (List.forall_mem_cons.mpr ⟨⟨kJ7_get, q959, _, ⟨"java/util/List", "get", "(I)Ljava/lang/Object;"⟩, rfl, rfl, q1843, q957, List.mem_of_getElem? (i := 10) rfl⟩, (List.forall_mem_cons.mpr ⟨⟨kJ32_get, q974, _, ⟨"java/util/List", "get", "(I)Ljava/lang/Object;"⟩, rfl, rfl, q1843, q972, List.mem_of_getElem? (i := 11) rfl⟩, (List.forall_mem_cons.mpr ⟨⟨kJ4_length, q633, _, ⟨"java/lang/CharSequence", "length", "()I"⟩, rfl, rfl, q2018, q2022, List.mem_of_getElem? (i := 21) rfl⟩, (List.forall_mem_cons.mpr ⟨⟨kJ3_length, q723, _, ⟨"java/lang/CharSequence", "length", "()I"⟩, rfl, rfl, q2018, q2026, List.mem_of_getElem? (i := 22) rfl⟩, (List.forall_mem_cons.mpr ⟨⟨kJ4_charAt, q1970, _, ⟨"java/lang/CharSequence", "charAt", "(I)C"⟩, rfl, rfl, q2037, q2040, List.mem_of_getElem? (i := 23) rfl⟩, (List.forall_mem_cons.mpr ⟨⟨kJ3_charAt, q2045, _, ⟨"java/lang/CharSequence", "charAt", "(I)C"⟩, rfl, rfl, q2037, q2043, List.mem_of_getElem? (i := 24) rfl⟩, (List.forall_mem_cons.mpr ⟨⟨kJ7_isEmpty, q1504, _, ⟨"java/util/List", "isEmpty", "()Z"⟩, rfl, rfl, q2090, q1502, List.mem_of_getElem? (i := 19) rfl⟩, (List.forall_mem_cons.mpr ⟨⟨kJ0_isEmpty, q1509, _, ⟨"java/util/List", "isEmpty", "()Z"⟩, rfl, rfl, q2090, q1507, List.mem_of_getElem? (i := 20) rfl⟩, (fun _ h => nomatch h)⟩)⟩)⟩)⟩)⟩)⟩)⟩)⟩)⟩)⟩)⟩)⟩)⟩)⟩)⟩)⟩)⟩)⟩)
def IF39 : List (Nat × Nat × (MI × Nat)) := IF39_0
theorem IF39_ok (X : XT) : ∀ r ∈ IF39, IFS (mkG X) (cn 39) r.1 r.2.1 r.2.2.1 r.2.2.2 := IF39_0_ok X
def IF48_0 : List (Nat × Nat × (MI × Nat)) := [(38, 15, (mJ7_get, 1)), (38, 17, (mJ32_get, 1))]
theorem IF48_0_ok (X : XT) : ∀ r ∈ IF48_0, IFS (mkG X) (cn 48) r.1 r.2.1 r.2.2.1 r.2.2.2 := (List.forall_mem_cons.mpr ⟨⟨kJ7_get, q959, _, ⟨"java/util/List", "get", "(I)Ljava/lang/Object;"⟩, rfl, rfl, q1891, q957, List.mem_of_getElem? (i := 10) rfl⟩, (List.forall_mem_cons.mpr ⟨⟨kJ32_get, q974, _, ⟨"java/util/List", "get", "(I)Ljava/lang/Object;"⟩, rfl, rfl, q1891, q972, List.mem_of_getElem? (i := 11) rfl⟩, (fun _ h => nomatch h)⟩)⟩)
def IF48 : List (Nat × Nat × (MI × Nat)) := IF48_0
theorem IF48_ok (X : XT) : ∀ r ∈ IF48, IFS (mkG X) (cn 48) r.1 r.2.1 r.2.2.1 r.2.2.2 := IF48_0_ok X
def IF4_0 : List (Nat × Nat × (MI × Nat)) := [(710, 14, (mJ4_toString, 0)), (710, 13, (mJ3_toString, 0))]
theorem IF4_0_ok (X : XT) : ∀ r ∈ IF4_0, IFS (mkG X) (cn 4) r.1 r.2.1 r.2.2.1 r.2.2.2 := (List.forall_mem_cons.mpr ⟨⟨kJ4_toString, q2174, _, ⟨"java/lang/CharSequence", "toString", "()Ljava/lang/String;"⟩, rfl, rfl, q2169, q2172, List.mem_of_getElem? (i := 25) rfl⟩, (List.forall_mem_cons.mpr ⟨⟨kJ3_toString, q702, _, ⟨"java/lang/CharSequence", "toString", "()Ljava/lang/String;"⟩, rfl, rfl, q2169, q2177, List.mem_of_getElem? (i := 26) rfl⟩, (fun _ h => nomatch h)⟩)⟩)
def IF4 : List (Nat × Nat × (MI × Nat)) := IF4_0
theorem IF4_ok (X : XT) : ∀ r ∈ IF4, IFS (mkG X) (cn 4) r.1 r.2.1 r.2.2.1 r.2.2.2 := IF4_0_ok X
def IF49_0 : List (Nat × Nat × (MI × Nat)) := [(110, 15, (mJ7_add, 1)), (110, 17, (mJ32_add, 1))]
theorem IF49_0_ok (X : XT) : ∀ r ∈ IF49_0, IFS (mkG X) (cn 49) r.1 r.2.1 r.2.2.1 r.2.2.2 := (List.forall_mem_cons.mpr ⟨⟨kJ7_add, q260, _, ⟨"java/util/List", "add", "(Ljava/lang/Object;)Z"⟩, rfl, rfl, q2274, q258, List.mem_of_getElem? (i := 0) rfl⟩, (List.forall_mem_cons.mpr ⟨⟨kJ32_add, q340, _, ⟨"java/util/List", "add", "(Ljava/lang/Object;)Z"⟩, rfl, rfl, q2274, q338, List.mem_of_getElem? (i := 1) rfl⟩, (fun _ h => nomatch h)⟩)⟩)
def IF49 : List (Nat × Nat × (MI × Nat)) := IF49_0
theorem IF49_ok (X : XT) : ∀ r ∈ IF49, IFS (mkG X) (cn 49) r.1 r.2.1 r.2.2.1 r.2.2.2 := IF49_0_ok X
def IFT : Nat → List (Nat × Nat × (MI × Nat))
  | 40 => IF40
  | 47 => IF47
  | 43 => IF43
  | 7 => IF7
  | 32 => IF32
  | 39 => IF39
  | 48 => IF48
  | 4 => IF4
  | 49 => IF49
  | _ => []
def IF (o i c : Nat) : Option ((MI × Nat)) := lk (IFT o) i c
theorem IF_ok (X : XT) (o : Nat) : ∀ r ∈ IFT o, IFS (mkG X) (cn o) r.1 r.2.1 r.2.2.1 r.2.2.2 := by
  unfold IFT
  split
  · exact IF40_ok X
  · exact IF47_ok X
  · exact IF43_ok X
  · exact IF7_ok X
  · exact IF32_ok X
  · exact IF39_ok X
  · exact IF48_ok X
  · exact IF4_ok X
  · exact IF49_ok X
  · exact fun _ h => nomatch h
theorem if_40_28_15 : IF 40 28 15 = some ((mJ7_add, 1)) := rfl
theorem if_40_28_17 : IF 40 28 17 = some ((mJ32_add, 1)) := rfl
theorem if_40_34_15 : IF 40 34 15 = some ((mJ7_iterator, 0)) := rfl
theorem if_40_34_17 : IF 40 34 17 = some ((mJ31_iterator, 0)) := rfl
theorem if_40_38_8 : IF 40 38 8 = some ((mX9_hasNext, 0)) := rfl
theorem if_40_38_16 : IF 40 38 16 = some ((mJ12_hasNext, 0)) := rfl
theorem if_40_38_19 : IF 40 38 19 = some ((mJ24_hasNext, 0)) := rfl
theorem if_40_44_8 : IF 40 44 8 = some ((mX9_next, 0)) := rfl
theorem if_40_44_16 : IF 40 44 16 = some ((mJ12_next, 0)) := rfl
theorem if_40_44_19 : IF 40 44 19 = some ((mJ24_next, 0)) := rfl
theorem if_40_77_15 : IF 40 77 15 = some ((mJ7_size, 0)) := rfl
theorem if_40_77_17 : IF 40 77 17 = some ((mJ32_size, 0)) := rfl
theorem if_40_89_15 : IF 40 89 15 = some ((mJ7_get, 1)) := rfl
theorem if_40_89_17 : IF 40 89 17 = some ((mJ32_get, 1)) := rfl
theorem if_47_42_15 : IF 47 42 15 = some ((mJ7_get, 1)) := rfl
theorem if_47_42_17 : IF 47 42 17 = some ((mJ32_get, 1)) := rfl
theorem if_47_3_15 : IF 47 3 15 = some ((mJ7_size, 0)) := rfl
theorem if_47_3_17 : IF 47 3 17 = some ((mJ32_size, 0)) := rfl
theorem if_43_36_15 : IF 43 36 15 = some ((mJ7_addAll, 1)) := rfl
theorem if_43_36_17 : IF 43 36 17 = some ((mJ32_addAll, 1)) := rfl
theorem if_43_86_8 : IF 43 86 8 = some ((mX9_hasNext, 0)) := rfl
theorem if_43_86_16 : IF 43 86 16 = some ((mJ12_hasNext, 0)) := rfl
theorem if_43_86_19 : IF 43 86 19 = some ((mJ24_hasNext, 0)) := rfl
theorem if_43_92_8 : IF 43 92 8 = some ((mX9_next, 0)) := rfl
theorem if_43_92_16 : IF 43 92 16 = some ((mJ12_next, 0)) := rfl
theorem if_43_92_19 : IF 43 92 19 = some ((mJ24_next, 0)) := rfl
theorem if_43_102_15 : IF 43 102 15 = some ((mJ7_size, 0)) := rfl
theorem if_43_102_17 : IF 43 102 17 = some ((mJ32_size, 0)) := rfl
theorem if_43_106_15 : IF 43 106 15 = some ((mJ7_add, 1)) := rfl
theorem if_43_106_17 : IF 43 106 17 = some ((mJ32_add, 1)) := rfl
theorem if_43_110_15 : IF 43 110 15 = some ((mJ7_isEmpty, 0)) := rfl
theorem if_43_110_17 : IF 43 110 17 = some ((mJ0_isEmpty, 0)) := rfl
theorem if_43_116_15 : IF 43 116 15 = some ((mJ7_get, 1)) := rfl
theorem if_43_116_17 : IF 43 116 17 = some ((mJ32_get, 1)) := rfl
theorem if_7_42_12 : IF 7 42 12 = some ((mJ1_toArray, 0)) := rfl
theorem if_7_42_15 : IF 7 42 15 = some ((mJ7_toArray, 0)) := rfl
theorem if_7_42_17 : IF 7 42 17 = some ((mJ32_toArray, 0)) := rfl
theorem if_32_80_12 : IF 32 80 12 = some ((mJ1_toArray, 0)) := rfl
theorem if_32_80_15 : IF 32 80 15 = some ((mJ7_toArray, 0)) := rfl
theorem if_32_80_17 : IF 32 80 17 = some ((mJ32_toArray, 0)) := rfl
theorem if_39_146_15 : IF 39 146 15 = some ((mJ7_size, 0)) := rfl
theorem if_39_146_17 : IF 39 146 17 = some ((mJ32_size, 0)) := rfl
theorem if_39_191_15 : IF 39 191 15 = some ((mJ7_iterator, 0)) := rfl
theorem if_39_191_17 : IF 39 191 17 = some ((mJ31_iterator, 0)) := rfl
theorem if_39_195_8 : IF 39 195 8 = some ((mX9_hasNext, 0)) := rfl
theorem if_39_195_16 : IF 39 195 16 = some ((mJ12_hasNext, 0)) := rfl
theorem if_39_195_19 : IF 39 195 19 = some ((mJ24_hasNext, 0)) := rfl
theorem if_39_201_8 : IF 39 201 8 = some ((mX9_next, 0)) := rfl
theorem if_39_201_16 : IF 39 201 16 = some ((mJ12_next, 0)) := rfl
theorem if_39_201_19 : IF 39 201 19 = some ((mJ24_next, 0)) := rfl
theorem if_39_255_15 : IF 39 255 15 = some ((mJ7_get, 1)) := rfl
theorem if_39_255_17 : IF 39 255 17 = some ((mJ32_get, 1)) := rfl
theorem if_39_330_14 : IF 39 330 14 = some ((mJ4_length, 0)) := rfl
theorem if_39_330_13 : IF 39 330 13 = some ((mJ3_length, 0)) := rfl
theorem if_39_335_14 : IF 39 335 14 = some ((mJ4_charAt, 1)) := rfl
theorem if_39_335_13 : IF 39 335 13 = some ((mJ3_charAt, 1)) := rfl
theorem if_39_369_15 : IF 39 369 15 = some ((mJ7_isEmpty, 0)) := rfl
theorem if_39_369_17 : IF 39 369 17 = some ((mJ0_isEmpty, 0)) := rfl
theorem if_48_38_15 : IF 48 38 15 = some ((mJ7_get, 1)) := rfl
theorem if_48_38_17 : IF 48 38 17 = some ((mJ32_get, 1)) := rfl
theorem if_4_710_14 : IF 4 710 14 = some ((mJ4_toString, 0)) := rfl
theorem if_4_710_13 : IF 4 710 13 = some ((mJ3_toString, 0)) := rfl
theorem if_49_110_15 : IF 49 110 15 = some ((mJ7_add, 1)) := rfl
theorem if_49_110_17 : IF 49 110 17 = some ((mJ32_add, 1)) := rfl
def AN39 : List (Nat × Nat × Nat) := [(146, 0, 0), (191, 0, 0), (195, 0, 0), (201, 0, 0), (255, 0, 1), (330, 0, 0), (335, 0, 1), (369, 0, 0), (60, 0, 0), (64, 0, 0), (68, 0, 1), (83, 0, 0), (92, 0, 1), (96, 0, 2), (100, 0, 1), (116, 0, 2), (126, 0, 1), (169, 0, 0), (172, 0, 0), (175, 0, 0), (178, 0, 0), (210, 0, 0), (223, 0, 3), (235, 0, 3), (239, 0, 2), (247, 0, 0), (253, 0, 0), (259, 0, 0), (262, 0, 0), (268, 0, 1), (277, 0, 1), (287, 0, 0), (288, 0, 1), (291, 0, 0), (294, 0, 2), (302, 0, 2), (306, 0, 1), (312, 0, 1), (318, 0, 1), (321, 0, 0), (325, 0, 1), (339, 0, 1), (360, 0, 0), (362, 0, 0), (364, 0, 0), (383, 0, 0), (387, 0, 1), (395, 0, 0), (402, 0, 0), (403, 0, 0), (409, 0, 0)]
def AN48 : List (Nat × Nat × Nat) := [(38, 0, 1), (50, 0, 2)]
def AN49 : List (Nat × Nat × Nat) := [(110, 0, 1), (23, 0, 0), (29, 0, 1), (37, 0, 2), (46, 0, 2), (55, 0, 1), (59, 0, 0), (63, 0, 1), (69, 0, 1), (72, 0, 1), (76, 0, 0), (81, 0, 1), (85, 0, 2), (89, 0, 0), (106, 0, 0)]
def AN40 : List (Nat × Nat × Nat) := [(28, 0, 1), (34, 0, 0), (38, 0, 0), (44, 0, 0), (77, 0, 0), (89, 0, 1), (93, 0, 0), (102, 0, 0), (105, 0, 0), (134, 0, 0), (140, 0, 1), (146, 0, 0), (149, 0, 1), (156, 0, 0), (159, 0, 0), (162, 0, 0), (165, 0, 0), (168, 0, 0)]
def AN43 : List (Nat × Nat × Nat) := [(36, 0, 1), (86, 0, 0), (92, 0, 0), (102, 0, 0), (106, 0, 1), (110, 0, 0), (116, 0, 1), (73, 0, 1), (82, 0, 0), (98, 0, 1), (113, 0, 0), (124, 0, 0), (132, 0, 0), (137, 0, 0), (140, 0, 0), (143, 0, 2), (147, 0, 0), (154, 0, 1), (165, 0, 2), (169, 0, 0), (175, 0, 1), (181, 0, 0), (190, 0, 0), (193, 0, 0)]
def AN47 : List (Nat × Nat × Nat) := [(3, 0, 0), (42, 0, 1), (34, 0, 0), (48, 0, 0)]
def AN4 : List (Nat × Nat × Nat) := [(710, 0, 0), (335, 0, 0), (492, 0, 0), (505, 0, 0), (549, 0, 0), (552, 0, 0), (681, 0, 2), (711, 0, 1), (1047, 0, 0)]
def AN7 : List (Nat × Nat × Nat) := [(42, 0, 0), (25, 0, 1), (29, 0, 1), (32, 0, 0), (69, 0, 1), (123, 0, 1), (129, 0, 0), (131, 0, 3), (135, 0, 1), (198, 0, 1)]
def AN32 : List (Nat × Nat × Nat) := [(80, 0, 0), (57, 0, 1), (73, 0, 2), (76, 0, 1), (86, 0, 1), (90, 0, 1), (93, 0, 2), (102, 0, 1), (106, 0, 1), (111, 0, 0), (115, 0, 1), (121, 0, 1), (128, 0, 1)]
def AN8 : List (Nat × Nat × Nat) := [(110, 0, 2), (94, 0, 1), (98, 0, 1), (101, 0, 0)]
def AN44 : List (Nat × Nat × Nat) := [(24, 0, 0), (32, 0, 1), (54, 0, 1), (60, 0, 1), (63, 0, 2), (67, 0, 1), (79, 0, 0), (82, 0, 2), (85, 0, 2), (88, 0, 1)]
def AN46 : List (Nat × Nat × Nat) := [(29, 0, 1), (35, 0, 1), (41, 0, 1), (44, 0, 1), (51, 0, 0)]
def AN41 : List (Nat × Nat × Nat) := [(37, 0, 0), (43, 0, 0)]
def AN38 : List (Nat × Nat × Nat) := [(7, 0, 1), (17, 0, 5), (23, 0, 1), (26, 0, 1), (29, 0, 2), (33, 0, 3), (37, 0, 2), (41, 0, 2), (44, 0, 2), (47, 0, 1), (50, 0, 3), (53, 0, 3), (56, 0, 1), (61, 0, 1), (64, 0, 1), (67, 0, 3), (70, 0, 1), (73, 0, 1), (76, 0, 1), (80, 0, 1), (83, 0, 0), (89, 0, 0), (93, 0, 1), (99, 0, 0), (103, 0, 0), (106, 0, 1), (110, 0, 0), (113, 0, 0), (125, 0, 1), (126, 0, 0), (132, 0, 5), (135, 0, 1), (138, 0, 1), (142, 0, 2), (146, 0, 3), (150, 0, 2), (153, 0, 2), (156, 0, 2), (159, 0, 1), (162, 0, 3), (165, 0, 3), (168, 0, 1), (171, 0, 1), (174, 0, 1), (177, 0, 3), (180, 0, 1), (183, 0, 1), (186, 0, 1), (189, 0, 1), (190, 0, 0), (193, 0, 0), (197, 0, 0), (200, 0, 0), (204, 0, 1), (208, 0, 0), (211, 0, 0), (215, 0, 1), (218, 0, 0), (219, 0, 0), (222, 0, 0), (225, 0, 0)]
def AN42 : List (Nat × Nat × Nat) := [(64, 0, 2), (68, 0, 1), (72, 0, 2), (75, 0, 3), (79, 0, 1), (83, 0, 0), (86, 0, 1), (89, 0, 1), (92, 0, 1), (95, 0, 1), (107, 0, 3), (111, 0, 5), (115, 0, 1), (118, 0, 1), (121, 0, 1), (124, 0, 1), (128, 0, 1), (131, 0, 0), (135, 0, 2), (139, 0, 1), (142, 0, 1), (145, 0, 3), (148, 0, 2), (151, 0, 1), (154, 0, 1), (157, 0, 1), (160, 0, 1), (163, 0, 1), (166, 0, 1), (169, 0, 0), (172, 0, 1), (175, 0, 3), (178, 0, 2), (185, 0, 1), (190, 0, 1), (204, 0, 0), (206, 0, 2), (209, 0, 2), (218, 0, 2), (221, 0, 1), (227, 0, 1), (231, 0, 0), (236, 0, 1), (246, 0, 0), (260, 0, 0), (263, 0, 0), (266, 0, 0)]
def AN2 : List (Nat × Nat × Nat) := [(32, 0, 0), (40, 0, 0), (83, 0, 0), (100, 0, 1), (104, 0, 1), (195, 0, 0), (204, 0, 0), (208, 0, 2), (397, 0, 1), (399, 0, 3)]
def AN30 : List (Nat × Nat × Nat) := [(15, 0, 1), (19, 0, 1), (22, 0, 0)]
def AN34 : List (Nat × Nat × Nat) := [(15, 0, 1), (19, 0, 1), (22, 0, 0)]
def AN13 : List (Nat × Nat × Nat) := [(27, 0, 0), (35, 0, 0), (39, 0, 0), (49, 0, 1), (60, 0, 0), (69, 0, 0), (78, 0, 0)]
def AN0 : List (Nat × Nat × Nat) := [(7, 0, 0)]
def AN6 : List (Nat × Nat × Nat) := [(47, 0, 1)]
def AN22 : List (Nat × Nat × Nat) := [(28, 0, 0), (32, 0, 0), (35, 0, 1)]
def AN31 : List (Nat × Nat × Nat) := [(65, 0, 0)]
def AN1 : List (Nat × Nat × Nat) := [(10, 0, 2), (71, 0, 1), (86, 0, 1), (93, 0, 0), (100, 0, 0), (118, 0, 0), (189, 0, 1)]
def AN12 : List (Nat × Nat × Nat) := [(31, 0, 0)]
def AN10 : List (Nat × Nat × Nat) := [(50, 0, 1), (54, 0, 1), (61, 0, 0), (86, 0, 0), (310, 0, 0)]
def AN24 : List (Nat × Nat × Nat) := [(25, 0, 1), (36, 0, 0), (39, 0, 0)]
def ANT : Nat → List (Nat × Nat × Nat)
  | 39 => AN39
  | 48 => AN48
  | 49 => AN49
  | 40 => AN40
  | 43 => AN43
  | 47 => AN47
  | 4 => AN4
  | 7 => AN7
  | 32 => AN32
  | 8 => AN8
  | 44 => AN44
  | 46 => AN46
  | 41 => AN41
  | 38 => AN38
  | 42 => AN42
  | 2 => AN2
  | 30 => AN30
  | 34 => AN34
  | 13 => AN13
  | 0 => AN0
  | 6 => AN6
  | 22 => AN22
  | 31 => AN31
  | 1 => AN1
  | 12 => AN12
  | 10 => AN10
  | 24 => AN24
  | _ => []
def AN (o i : Nat) : Option (Nat) := lk (ANT o) i 0
theorem an_39_146 : AN 39 146 = some (0) := rfl
theorem an_39_191 : AN 39 191 = some (0) := rfl
theorem an_39_195 : AN 39 195 = some (0) := rfl
theorem an_39_201 : AN 39 201 = some (0) := rfl
theorem an_39_255 : AN 39 255 = some (1) := rfl
theorem an_39_330 : AN 39 330 = some (0) := rfl
theorem an_39_335 : AN 39 335 = some (1) := rfl
theorem an_39_369 : AN 39 369 = some (0) := rfl
theorem an_39_60 : AN 39 60 = some (0) := rfl
theorem an_39_64 : AN 39 64 = some (0) := rfl
theorem an_39_68 : AN 39 68 = some (1) := rfl
theorem an_39_83 : AN 39 83 = some (0) := rfl
theorem an_39_92 : AN 39 92 = some (1) := rfl
theorem an_39_96 : AN 39 96 = some (2) := rfl
theorem an_39_100 : AN 39 100 = some (1) := rfl
theorem an_39_116 : AN 39 116 = some (2) := rfl
theorem an_39_126 : AN 39 126 = some (1) := rfl
theorem an_39_169 : AN 39 169 = some (0) := rfl
theorem an_39_172 : AN 39 172 = some (0) := rfl
theorem an_39_175 : AN 39 175 = some (0) := rfl
theorem an_39_178 : AN 39 178 = some (0) := rfl
theorem an_39_210 : AN 39 210 = some (0) := rfl
theorem an_39_223 : AN 39 223 = some (3) := rfl
theorem an_39_235 : AN 39 235 = some (3) := rfl
theorem an_39_239 : AN 39 239 = some (2) := rfl
theorem an_39_247 : AN 39 247 = some (0) := rfl
theorem an_39_253 : AN 39 253 = some (0) := rfl
theorem an_39_259 : AN 39 259 = some (0) := rfl
theorem an_39_262 : AN 39 262 = some (0) := rfl
theorem an_39_268 : AN 39 268 = some (1) := rfl
theorem an_39_277 : AN 39 277 = some (1) := rfl
theorem an_39_287 : AN 39 287 = some (0) := rfl
theorem an_39_288 : AN 39 288 = some (1) := rfl
theorem an_39_291 : AN 39 291 = some (0) := rfl
theorem an_39_294 : AN 39 294 = some (2) := rfl
theorem an_39_302 : AN 39 302 = some (2) := rfl
theorem an_39_306 : AN 39 306 = some (1) := rfl
theorem an_39_312 : AN 39 312 = some (1) := rfl
theorem an_39_318 : AN 39 318 = some (1) := rfl
theorem an_39_321 : AN 39 321 = some (0) := rfl
theorem an_39_325 : AN 39 325 = some (1) := rfl
theorem an_39_339 : AN 39 339 = some (1) := rfl
theorem an_39_360 : AN 39 360 = some (0) := rfl
theorem an_39_362 : AN 39 362 = some (0) := rfl
theorem an_39_364 : AN 39 364 = some (0) := rfl
theorem an_39_383 : AN 39 383 = some (0) := rfl
theorem an_39_387 : AN 39 387 = some (1) := rfl
theorem an_39_395 : AN 39 395 = some (0) := rfl
theorem an_39_402 : AN 39 402 = some (0) := rfl
theorem an_39_403 : AN 39 403 = some (0) := rfl
theorem an_39_409 : AN 39 409 = some (0) := rfl
theorem an_48_38 : AN 48 38 = some (1) := rfl
theorem an_48_50 : AN 48 50 = some (2) := rfl
theorem an_49_110 : AN 49 110 = some (1) := rfl
theorem an_49_23 : AN 49 23 = some (0) := rfl
theorem an_49_29 : AN 49 29 = some (1) := rfl
theorem an_49_37 : AN 49 37 = some (2) := rfl
theorem an_49_46 : AN 49 46 = some (2) := rfl
theorem an_49_55 : AN 49 55 = some (1) := rfl
theorem an_49_59 : AN 49 59 = some (0) := rfl
theorem an_49_63 : AN 49 63 = some (1) := rfl
theorem an_49_69 : AN 49 69 = some (1) := rfl
theorem an_49_72 : AN 49 72 = some (1) := rfl
theorem an_49_76 : AN 49 76 = some (0) := rfl
theorem an_49_81 : AN 49 81 = some (1) := rfl
theorem an_49_85 : AN 49 85 = some (2) := rfl
theorem an_49_89 : AN 49 89 = some (0) := rfl
theorem an_49_106 : AN 49 106 = some (0) := rfl
theorem an_40_28 : AN 40 28 = some (1) := rfl
theorem an_40_34 : AN 40 34 = some (0) := rfl
theorem an_40_38 : AN 40 38 = some (0) := rfl
theorem an_40_44 : AN 40 44 = some (0) := rfl
theorem an_40_77 : AN 40 77 = some (0) := rfl
theorem an_40_89 : AN 40 89 = some (1) := rfl
theorem an_40_93 : AN 40 93 = some (0) := rfl
theorem an_40_102 : AN 40 102 = some (0) := rfl
theorem an_40_105 : AN 40 105 = some (0) := rfl
theorem an_40_134 : AN 40 134 = some (0) := rfl
theorem an_40_140 : AN 40 140 = some (1) := rfl
theorem an_40_146 : AN 40 146 = some (0) := rfl
theorem an_40_149 : AN 40 149 = some (1) := rfl
theorem an_40_156 : AN 40 156 = some (0) := rfl
theorem an_40_159 : AN 40 159 = some (0) := rfl
theorem an_40_162 : AN 40 162 = some (0) := rfl
theorem an_40_165 : AN 40 165 = some (0) := rfl
theorem an_40_168 : AN 40 168 = some (0) := rfl
theorem an_43_36 : AN 43 36 = some (1) := rfl
theorem an_43_86 : AN 43 86 = some (0) := rfl
theorem an_43_92 : AN 43 92 = some (0) := rfl
theorem an_43_102 : AN 43 102 = some (0) := rfl
theorem an_43_106 : AN 43 106 = some (1) := rfl
theorem an_43_110 : AN 43 110 = some (0) := rfl
theorem an_43_116 : AN 43 116 = some (1) := rfl
theorem an_43_73 : AN 43 73 = some (1) := rfl
theorem an_43_82 : AN 43 82 = some (0) := rfl
theorem an_43_98 : AN 43 98 = some (1) := rfl
theorem an_43_113 : AN 43 113 = some (0) := rfl
theorem an_43_124 : AN 43 124 = some (0) := rfl
theorem an_43_132 : AN 43 132 = some (0) := rfl
theorem an_43_137 : AN 43 137 = some (0) := rfl
theorem an_43_140 : AN 43 140 = some (0) := rfl
theorem an_43_143 : AN 43 143 = some (2) := rfl
theorem an_43_147 : AN 43 147 = some (0) := rfl
theorem an_43_154 : AN 43 154 = some (1) := rfl
theorem an_43_165 : AN 43 165 = some (2) := rfl
theorem an_43_169 : AN 43 169 = some (0) := rfl
theorem an_43_175 : AN 43 175 = some (1) := rfl
theorem an_43_181 : AN 43 181 = some (0) := rfl
theorem an_43_190 : AN 43 190 = some (0) := rfl
theorem an_43_193 : AN 43 193 = some (0) := rfl
theorem an_47_3 : AN 47 3 = some (0) := rfl
theorem an_47_42 : AN 47 42 = some (1) := rfl
theorem an_47_34 : AN 47 34 = some (0) := rfl
theorem an_47_48 : AN 47 48 = some (0) := rfl
theorem an_4_710 : AN 4 710 = some (0) := rfl
theorem an_4_335 : AN 4 335 = some (0) := rfl
theorem an_4_492 : AN 4 492 = some (0) := rfl
theorem an_4_505 : AN 4 505 = some (0) := rfl
theorem an_4_549 : AN 4 549 = some (0) := rfl
theorem an_4_552 : AN 4 552 = some (0) := rfl
theorem an_4_681 : AN 4 681 = some (2) := rfl
theorem an_4_711 : AN 4 711 = some (1) := rfl
theorem an_4_1047 : AN 4 1047 = some (0) := rfl
theorem an_7_42 : AN 7 42 = some (0) := rfl
theorem an_7_25 : AN 7 25 = some (1) := rfl
theorem an_7_29 : AN 7 29 = some (1) := rfl
theorem an_7_32 : AN 7 32 = some (0) := rfl
theorem an_7_69 : AN 7 69 = some (1) := rfl
theorem an_7_123 : AN 7 123 = some (1) := rfl
theorem an_7_129 : AN 7 129 = some (0) := rfl
theorem an_7_131 : AN 7 131 = some (3) := rfl
theorem an_7_135 : AN 7 135 = some (1) := rfl
theorem an_7_198 : AN 7 198 = some (1) := rfl
theorem an_32_80 : AN 32 80 = some (0) := rfl
theorem an_32_57 : AN 32 57 = some (1) := rfl
theorem an_32_73 : AN 32 73 = some (2) := rfl
theorem an_32_76 : AN 32 76 = some (1) := rfl
theorem an_32_86 : AN 32 86 = some (1) := rfl
theorem an_32_90 : AN 32 90 = some (1) := rfl
theorem an_32_93 : AN 32 93 = some (2) := rfl
theorem an_32_102 : AN 32 102 = some (1) := rfl
theorem an_32_106 : AN 32 106 = some (1) := rfl
theorem an_32_111 : AN 32 111 = some (0) := rfl
theorem an_32_115 : AN 32 115 = some (1) := rfl
theorem an_32_121 : AN 32 121 = some (1) := rfl
theorem an_32_128 : AN 32 128 = some (1) := rfl
theorem an_8_110 : AN 8 110 = some (2) := rfl
theorem an_8_94 : AN 8 94 = some (1) := rfl
theorem an_8_98 : AN 8 98 = some (1) := rfl
theorem an_8_101 : AN 8 101 = some (0) := rfl
theorem an_44_24 : AN 44 24 = some (0) := rfl
theorem an_44_32 : AN 44 32 = some (1) := rfl
theorem an_44_54 : AN 44 54 = some (1) := rfl
theorem an_44_60 : AN 44 60 = some (1) := rfl
theorem an_44_63 : AN 44 63 = some (2) := rfl
theorem an_44_67 : AN 44 67 = some (1) := rfl
theorem an_44_79 : AN 44 79 = some (0) := rfl
theorem an_44_82 : AN 44 82 = some (2) := rfl
theorem an_44_85 : AN 44 85 = some (2) := rfl
theorem an_44_88 : AN 44 88 = some (1) := rfl
theorem an_46_29 : AN 46 29 = some (1) := rfl
theorem an_46_35 : AN 46 35 = some (1) := rfl
theorem an_46_41 : AN 46 41 = some (1) := rfl
theorem an_46_44 : AN 46 44 = some (1) := rfl
theorem an_46_51 : AN 46 51 = some (0) := rfl
theorem an_41_37 : AN 41 37 = some (0) := rfl
theorem an_41_43 : AN 41 43 = some (0) := rfl
theorem an_38_7 : AN 38 7 = some (1) := rfl
theorem an_38_17 : AN 38 17 = some (5) := rfl
theorem an_38_23 : AN 38 23 = some (1) := rfl
theorem an_38_26 : AN 38 26 = some (1) := rfl
theorem an_38_29 : AN 38 29 = some (2) := rfl
theorem an_38_33 : AN 38 33 = some (3) := rfl
theorem an_38_37 : AN 38 37 = some (2) := rfl
theorem an_38_41 : AN 38 41 = some (2) := rfl
theorem an_38_44 : AN 38 44 = some (2) := rfl
theorem an_38_47 : AN 38 47 = some (1) := rfl
theorem an_38_50 : AN 38 50 = some (3) := rfl
theorem an_38_53 : AN 38 53 = some (3) := rfl
theorem an_38_56 : AN 38 56 = some (1) := rfl
theorem an_38_61 : AN 38 61 = some (1) := rfl
theorem an_38_64 : AN 38 64 = some (1) := rfl
theorem an_38_67 : AN 38 67 = some (3) := rfl
theorem an_38_70 : AN 38 70 = some (1) := rfl
theorem an_38_73 : AN 38 73 = some (1) := rfl
theorem an_38_76 : AN 38 76 = some (1) := rfl
theorem an_38_80 : AN 38 80 = some (1) := rfl
theorem an_38_83 : AN 38 83 = some (0) := rfl
theorem an_38_89 : AN 38 89 = some (0) := rfl
theorem an_38_93 : AN 38 93 = some (1) := rfl
theorem an_38_99 : AN 38 99 = some (0) := rfl
theorem an_38_103 : AN 38 103 = some (0) := rfl
theorem an_38_106 : AN 38 106 = some (1) := rfl
theorem an_38_110 : AN 38 110 = some (0) := rfl
theorem an_38_113 : AN 38 113 = some (0) := rfl
theorem an_38_125 : AN 38 125 = some (1) := rfl
theorem an_38_126 : AN 38 126 = some (0) := rfl
theorem an_38_132 : AN 38 132 = some (5) := rfl
theorem an_38_135 : AN 38 135 = some (1) := rfl
theorem an_38_138 : AN 38 138 = some (1) := rfl
theorem an_38_142 : AN 38 142 = some (2) := rfl
theorem an_38_146 : AN 38 146 = some (3) := rfl
theorem an_38_150 : AN 38 150 = some (2) := rfl
theorem an_38_153 : AN 38 153 = some (2) := rfl
theorem an_38_156 : AN 38 156 = some (2) := rfl
theorem an_38_159 : AN 38 159 = some (1) := rfl
theorem an_38_162 : AN 38 162 = some (3) := rfl
theorem an_38_165 : AN 38 165 = some (3) := rfl
theorem an_38_168 : AN 38 168 = some (1) := rfl
theorem an_38_171 : AN 38 171 = some (1) := rfl
theorem an_38_174 : AN 38 174 = some (1) := rfl
theorem an_38_177 : AN 38 177 = some (3) := rfl
theorem an_38_180 : AN 38 180 = some (1) := rfl
theorem an_38_183 : AN 38 183 = some (1) := rfl
theorem an_38_186 : AN 38 186 = some (1) := rfl
theorem an_38_189 : AN 38 189 = some (1) := rfl
theorem an_38_190 : AN 38 190 = some (0) := rfl
theorem an_38_193 : AN 38 193 = some (0) := rfl
theorem an_38_197 : AN 38 197 = some (0) := rfl
theorem an_38_200 : AN 38 200 = some (0) := rfl
theorem an_38_204 : AN 38 204 = some (1) := rfl
theorem an_38_208 : AN 38 208 = some (0) := rfl
theorem an_38_211 : AN 38 211 = some (0) := rfl
theorem an_38_215 : AN 38 215 = some (1) := rfl
theorem an_38_218 : AN 38 218 = some (0) := rfl
theorem an_38_219 : AN 38 219 = some (0) := rfl
theorem an_38_222 : AN 38 222 = some (0) := rfl
theorem an_38_225 : AN 38 225 = some (0) := rfl
theorem an_42_64 : AN 42 64 = some (2) := rfl
theorem an_42_68 : AN 42 68 = some (1) := rfl
theorem an_42_72 : AN 42 72 = some (2) := rfl
theorem an_42_75 : AN 42 75 = some (3) := rfl
theorem an_42_79 : AN 42 79 = some (1) := rfl
theorem an_42_83 : AN 42 83 = some (0) := rfl
theorem an_42_86 : AN 42 86 = some (1) := rfl
theorem an_42_89 : AN 42 89 = some (1) := rfl
theorem an_42_92 : AN 42 92 = some (1) := rfl
theorem an_42_95 : AN 42 95 = some (1) := rfl
theorem an_42_107 : AN 42 107 = some (3) := rfl
theorem an_42_111 : AN 42 111 = some (5) := rfl
theorem an_42_115 : AN 42 115 = some (1) := rfl
theorem an_42_118 : AN 42 118 = some (1) := rfl
theorem an_42_121 : AN 42 121 = some (1) := rfl
theorem an_42_124 : AN 42 124 = some (1) := rfl
theorem an_42_128 : AN 42 128 = some (1) := rfl
theorem an_42_131 : AN 42 131 = some (0) := rfl
theorem an_42_135 : AN 42 135 = some (2) := rfl
theorem an_42_139 : AN 42 139 = some (1) := rfl
theorem an_42_142 : AN 42 142 = some (1) := rfl
theorem an_42_145 : AN 42 145 = some (3) := rfl
theorem an_42_148 : AN 42 148 = some (2) := rfl
theorem an_42_151 : AN 42 151 = some (1) := rfl
theorem an_42_154 : AN 42 154 = some (1) := rfl
theorem an_42_157 : AN 42 157 = some (1) := rfl
theorem an_42_160 : AN 42 160 = some (1) := rfl
theorem an_42_163 : AN 42 163 = some (1) := rfl
theorem an_42_166 : AN 42 166 = some (1) := rfl
theorem an_42_169 : AN 42 169 = some (0) := rfl
theorem an_42_172 : AN 42 172 = some (1) := rfl
theorem an_42_175 : AN 42 175 = some (3) := rfl
theorem an_42_178 : AN 42 178 = some (2) := rfl
theorem an_42_185 : AN 42 185 = some (1) := rfl
theorem an_42_190 : AN 42 190 = some (1) := rfl
theorem an_42_204 : AN 42 204 = some (0) := rfl
theorem an_42_206 : AN 42 206 = some (2) := rfl
theorem an_42_209 : AN 42 209 = some (2) := rfl
theorem an_42_218 : AN 42 218 = some (2) := rfl
theorem an_42_221 : AN 42 221 = some (1) := rfl
theorem an_42_227 : AN 42 227 = some (1) := rfl
theorem an_42_231 : AN 42 231 = some (0) := rfl
theorem an_42_236 : AN 42 236 = some (1) := rfl
theorem an_42_246 : AN 42 246 = some (0) := rfl
theorem an_42_260 : AN 42 260 = some (0) := rfl
theorem an_42_263 : AN 42 263 = some (0) := rfl
theorem an_42_266 : AN 42 266 = some (0) := rfl
theorem an_2_32 : AN 2 32 = some (0) := rfl
theorem an_2_40 : AN 2 40 = some (0) := rfl
theorem an_2_83 : AN 2 83 = some (0) := rfl
theorem an_2_100 : AN 2 100 = some (1) := rfl
theorem an_2_104 : AN 2 104 = some (1) := rfl
theorem an_2_195 : AN 2 195 = some (0) := rfl
theorem an_2_204 : AN 2 204 = some (0) := rfl
theorem an_2_208 : AN 2 208 = some (2) := rfl
theorem an_2_397 : AN 2 397 = some (1) := rfl
theorem an_2_399 : AN 2 399 = some (3) := rfl
theorem an_30_15 : AN 30 15 = some (1) := rfl
theorem an_30_19 : AN 30 19 = some (1) := rfl
theorem an_30_22 : AN 30 22 = some (0) := rfl
theorem an_34_15 : AN 34 15 = some (1) := rfl
theorem an_34_19 : AN 34 19 = some (1) := rfl
theorem an_34_22 : AN 34 22 = some (0) := rfl
theorem an_13_27 : AN 13 27 = some (0) := rfl
theorem an_13_35 : AN 13 35 = some (0) := rfl
theorem an_13_39 : AN 13 39 = some (0) := rfl
theorem an_13_49 : AN 13 49 = some (1) := rfl
theorem an_13_60 : AN 13 60 = some (0) := rfl
theorem an_13_69 : AN 13 69 = some (0) := rfl
theorem an_13_78 : AN 13 78 = some (0) := rfl
theorem an_0_7 : AN 0 7 = some (0) := rfl
theorem an_6_47 : AN 6 47 = some (1) := rfl
theorem an_22_28 : AN 22 28 = some (0) := rfl
theorem an_22_32 : AN 22 32 = some (0) := rfl
theorem an_22_35 : AN 22 35 = some (1) := rfl
theorem an_31_65 : AN 31 65 = some (0) := rfl
theorem an_1_10 : AN 1 10 = some (2) := rfl
theorem an_1_71 : AN 1 71 = some (1) := rfl
theorem an_1_86 : AN 1 86 = some (1) := rfl
theorem an_1_93 : AN 1 93 = some (0) := rfl
theorem an_1_100 : AN 1 100 = some (0) := rfl
theorem an_1_118 : AN 1 118 = some (0) := rfl
theorem an_1_189 : AN 1 189 = some (1) := rfl
theorem an_12_31 : AN 12 31 = some (0) := rfl
theorem an_10_50 : AN 10 50 = some (1) := rfl
theorem an_10_54 : AN 10 54 = some (1) := rfl
theorem an_10_61 : AN 10 61 = some (0) := rfl
theorem an_10_86 : AN 10 86 = some (0) := rfl
theorem an_10_310 : AN 10 310 = some (0) := rfl
theorem an_24_25 : AN 24 25 = some (1) := rfl
theorem an_24_36 : AN 24 36 = some (0) := rfl
theorem an_24_39 : AN 24 39 = some (0) := rfl
def CP43 : List (Nat × Nat × Nat) := [(42, 0, 0)]
theorem CP43_ok (X : XT) : ∀ r ∈ CP43, CpS (cn 43) r.1 := (List.forall_mem_cons.mpr ⟨⟨q1208, q334, q333, q89⟩, (fun _ h => nomatch h)⟩)
def CP41 : List (Nat × Nat × Nat) := [(27, 0, 0)]
theorem CP41_ok (X : XT) : ∀ r ∈ CP41, CpS (cn 41) r.1 := (List.forall_mem_cons.mpr ⟨⟨q1094, q334, q333, q89⟩, (fun _ h => nomatch h)⟩)
def CP4 : List (Nat × Nat × Nat) := [(212, 0, 0)]
theorem CP4_ok (X : XT) : ∀ r ∈ CP4, CpS (cn 4) r.1 := (List.forall_mem_cons.mpr ⟨⟨q673, q334, q333, q89⟩, (fun _ h => nomatch h)⟩)
def CP1 : List (Nat × Nat × Nat) := [(27, 0, 0)]
theorem CP1_ok (X : XT) : ∀ r ∈ CP1, CpS (cn 1) r.1 := (List.forall_mem_cons.mpr ⟨⟨q1182, q334, q333, q89⟩, (fun _ h => nomatch h)⟩)
def CP7 : List (Nat × Nat × Nat) := [(112, 0, 0)]
theorem CP7_ok (X : XT) : ∀ r ∈ CP7, CpS (cn 7) r.1 := (List.forall_mem_cons.mpr ⟨⟨q1196, q334, q333, q89⟩, (fun _ h => nomatch h)⟩)
def CP10 : List (Nat × Nat × Nat) := [(150, 0, 0)]
theorem CP10_ok (X : XT) : ∀ r ∈ CP10, CpS (cn 10) r.1 := (List.forall_mem_cons.mpr ⟨⟨q332, q334, q333, q89⟩, (fun _ h => nomatch h)⟩)
def CPT : Nat → List (Nat × Nat × Nat)
  | 43 => CP43
  | 41 => CP41
  | 4 => CP4
  | 1 => CP1
  | 7 => CP7
  | 10 => CP10
  | _ => []
def CP (o i : Nat) : Option (Nat) := lk (CPT o) i 0
theorem CP_ok (X : XT) (o : Nat) : ∀ r ∈ CPT o, CpS (cn o) r.1 := by
  unfold CPT
  split
  · exact CP43_ok X
  · exact CP41_ok X
  · exact CP4_ok X
  · exact CP1_ok X
  · exact CP7_ok X
  · exact CP10_ok X
  · exact fun _ h => nomatch h
theorem cp_43_42 : CP 43 42 = some (0) := rfl
theorem cp_41_27 : CP 41 27 = some (0) := rfl
theorem cp_4_212 : CP 4 212 = some (0) := rfl
theorem cp_1_27 : CP 1 27 = some (0) := rfl
theorem cp_7_112 : CP 7 112 = some (0) := rfl
theorem cp_10_150 : CP 10 150 = some (0) := rfl
def GC13 : List (Nat × Nat × Nat) := [(69, 0, 0)]
theorem GC13_ok (X : XT) : ∀ r ∈ GC13, GcS (cn 13) r.1 := (List.forall_mem_cons.mpr ⟨⟨q1029, q2868, q289, q323⟩, (fun _ h => nomatch h)⟩)
def GC10 : List (Nat × Nat × Nat) := [(86, 0, 0)]
theorem GC10_ok (X : XT) : ∀ r ∈ GC10, GcS (cn 10) r.1 := (List.forall_mem_cons.mpr ⟨⟨q288, q2868, q289, q323⟩, (fun _ h => nomatch h)⟩)
def GCT : Nat → List (Nat × Nat × Nat)
  | 13 => GC13
  | 10 => GC10
  | _ => []
def GC (o i : Nat) : Option (Nat) := lk (GCT o) i 0
theorem GC_ok (X : XT) (o : Nat) : ∀ r ∈ GCT o, GcS (cn o) r.1 := by
  unfold GCT
  split
  · exact GC13_ok X
  · exact GC10_ok X
  · exact fun _ h => nomatch h
theorem gc_13_69 : GC 13 69 = some (0) := rfl
theorem gc_10_86 : GC 10 86 = some (0) := rfl
def OI39 : List (Nat × Nat × Nat) := [(23, 0, 0)]
theorem OI39_ok (X : XT) : ∀ r ∈ OI39, Cond.methodLink (cn 39) r.1 Lib.objectInit ∈ lw_all := (List.forall_mem_cons.mpr ⟨q131, (fun _ h => nomatch h)⟩)
def OI48 : List (Nat × Nat × Nat) := [(19, 0, 0)]
theorem OI48_ok (X : XT) : ∀ r ∈ OI48, Cond.methodLink (cn 48) r.1 Lib.objectInit ∈ lw_all := (List.forall_mem_cons.mpr ⟨q1868, (fun _ h => nomatch h)⟩)
def OI44 : List (Nat × Nat × Nat) := [(3, 0, 0)]
theorem OI44_ok (X : XT) : ∀ r ∈ OI44, Cond.methodLink (cn 44) r.1 Lib.objectInit ∈ lw_all := (List.forall_mem_cons.mpr ⟨q1239, (fun _ h => nomatch h)⟩)
def OI49 : List (Nat × Nat × Nat) := [(7, 0, 0)]
theorem OI49_ok (X : XT) : ∀ r ∈ OI49, Cond.methodLink (cn 49) r.1 Lib.objectInit ∈ lw_all := (List.forall_mem_cons.mpr ⟨q2136, (fun _ h => nomatch h)⟩)
def OI40 : List (Nat × Nat × Nat) := [(3, 0, 0)]
theorem OI40_ok (X : XT) : ∀ r ∈ OI40, Cond.methodLink (cn 40) r.1 Lib.objectInit ∈ lw_all := (List.forall_mem_cons.mpr ⟨q193, (fun _ h => nomatch h)⟩)
def OI43 : List (Nat × Nat × Nat) := [(9, 0, 0)]
theorem OI43_ok (X : XT) : ∀ r ∈ OI43, Cond.methodLink (cn 43) r.1 Lib.objectInit ∈ lw_all := (List.forall_mem_cons.mpr ⟨q1103, (fun _ h => nomatch h)⟩)
def OI41 : List (Nat × Nat × Nat) := [(3, 0, 0)]
theorem OI41_ok (X : XT) : ∀ r ∈ OI41, Cond.methodLink (cn 41) r.1 Lib.objectInit ∈ lw_all := (List.forall_mem_cons.mpr ⟨q229, (fun _ h => nomatch h)⟩)
def OI47 : List (Nat × Nat × Nat) := [(15, 0, 0)]
theorem OI47_ok (X : XT) : ∀ r ∈ OI47, Cond.methodLink (cn 47) r.1 Lib.objectInit ∈ lw_all := (List.forall_mem_cons.mpr ⟨q1459, (fun _ h => nomatch h)⟩)
def OI42 : List (Nat × Nat × Nat) := [(3, 0, 0)]
theorem OI42_ok (X : XT) : ∀ r ∈ OI42, Cond.methodLink (cn 42) r.1 Lib.objectInit ∈ lw_all := (List.forall_mem_cons.mpr ⟨q2389, (fun _ h => nomatch h)⟩)
def OI2 : List (Nat × Nat × Nat) := [(3, 0, 0)]
theorem OI2_ok (X : XT) : ∀ r ∈ OI2, Cond.methodLink (cn 2) r.1 Lib.objectInit ∈ lw_all := (List.forall_mem_cons.mpr ⟨q163, (fun _ h => nomatch h)⟩)
def OI19 : List (Nat × Nat × Nat) := [(1, 0, 0)]
theorem OI19_ok (X : XT) : ∀ r ∈ OI19, Cond.methodLink (cn 19) r.1 Lib.objectInit ∈ lw_all := (List.forall_mem_cons.mpr ⟨q1947, (fun _ h => nomatch h)⟩)
def OI27 : List (Nat × Nat × Nat) := [(1, 0, 0)]
theorem OI27_ok (X : XT) : ∀ r ∈ OI27, Cond.methodLink (cn 27) r.1 Lib.objectInit ∈ lw_all := (List.forall_mem_cons.mpr ⟨q1390, (fun _ h => nomatch h)⟩)
def OI4 : List (Nat × Nat × Nat) := [(1, 0, 0)]
theorem OI4_ok (X : XT) : ∀ r ∈ OI4, Cond.methodLink (cn 4) r.1 Lib.objectInit ∈ lw_all := (List.forall_mem_cons.mpr ⟨q713, (fun _ h => nomatch h)⟩)
def OI13 : List (Nat × Nat × Nat) := [(1, 0, 0)]
theorem OI13_ok (X : XT) : ∀ r ∈ OI13, Cond.methodLink (cn 13) r.1 Lib.objectInit ∈ lw_all := (List.forall_mem_cons.mpr ⟨q540, (fun _ h => nomatch h)⟩)
def OI0 : List (Nat × Nat × Nat) := [(1, 0, 0)]
theorem OI0_ok (X : XT) : ∀ r ∈ OI0, Cond.methodLink (cn 0) r.1 Lib.objectInit ∈ lw_all := (List.forall_mem_cons.mpr ⟨q142, (fun _ h => nomatch h)⟩)
def OI12 : List (Nat × Nat × Nat) := [(7, 0, 0)]
theorem OI12_ok (X : XT) : ∀ r ∈ OI12, Cond.methodLink (cn 12) r.1 Lib.objectInit ∈ lw_all := (List.forall_mem_cons.mpr ⟨q478, (fun _ h => nomatch h)⟩)
def OI24 : List (Nat × Nat × Nat) := [(7, 0, 0)]
theorem OI24_ok (X : XT) : ∀ r ∈ OI24, Cond.methodLink (cn 24) r.1 Lib.objectInit ∈ lw_all := (List.forall_mem_cons.mpr ⟨q853, (fun _ h => nomatch h)⟩)
def OI11 : List (Nat × Nat × Nat) := [(1, 0, 0)]
theorem OI11_ok (X : XT) : ∀ r ∈ OI11, Cond.methodLink (cn 11) r.1 Lib.objectInit ∈ lw_all := (List.forall_mem_cons.mpr ⟨q352, (fun _ h => nomatch h)⟩)
def OIT : Nat → List (Nat × Nat × Nat)
  | 39 => OI39
  | 48 => OI48
  | 44 => OI44
  | 49 => OI49
  | 40 => OI40
  | 43 => OI43
  | 41 => OI41
  | 47 => OI47
  | 42 => OI42
  | 2 => OI2
  | 19 => OI19
  | 27 => OI27
  | 4 => OI4
  | 13 => OI13
  | 0 => OI0
  | 12 => OI12
  | 24 => OI24
  | 11 => OI11
  | _ => []
def OI (o i : Nat) : Option (Nat) := lk (OIT o) i 0
theorem OI_ok (X : XT) (o : Nat) : ∀ r ∈ OIT o, Cond.methodLink (cn o) r.1 Lib.objectInit ∈ lw_all := by
  unfold OIT
  split
  · exact OI39_ok X
  · exact OI48_ok X
  · exact OI44_ok X
  · exact OI49_ok X
  · exact OI40_ok X
  · exact OI43_ok X
  · exact OI41_ok X
  · exact OI47_ok X
  · exact OI42_ok X
  · exact OI2_ok X
  · exact OI19_ok X
  · exact OI27_ok X
  · exact OI4_ok X
  · exact OI13_ok X
  · exact OI0_ok X
  · exact OI12_ok X
  · exact OI24_ok X
  · exact OI11_ok X
  · exact fun _ h => nomatch h
theorem oi_39_23 : OI 39 23 = some (0) := rfl
theorem oi_48_19 : OI 48 19 = some (0) := rfl
theorem oi_44_3 : OI 44 3 = some (0) := rfl
theorem oi_49_7 : OI 49 7 = some (0) := rfl
theorem oi_40_3 : OI 40 3 = some (0) := rfl
theorem oi_43_9 : OI 43 9 = some (0) := rfl
theorem oi_41_3 : OI 41 3 = some (0) := rfl
theorem oi_47_15 : OI 47 15 = some (0) := rfl
theorem oi_42_3 : OI 42 3 = some (0) := rfl
theorem oi_2_3 : OI 2 3 = some (0) := rfl
theorem oi_19_1 : OI 19 1 = some (0) := rfl
theorem oi_27_1 : OI 27 1 = some (0) := rfl
theorem oi_4_1 : OI 4 1 = some (0) := rfl
theorem oi_13_1 : OI 13 1 = some (0) := rfl
theorem oi_0_1 : OI 0 1 = some (0) := rfl
theorem oi_12_7 : OI 12 7 = some (0) := rfl
theorem oi_24_7 : OI 24 7 = some (0) := rfl
theorem oi_11_1 : OI 11 1 = some (0) := rfl
theorem oi_words : Cond.instanceMethod Lib.objectInit ∈ lw_all ∧ Cond.code Lib.objectInit ⟨#[0xb1]⟩ 1 none ∈ lw_all := ⟨q132, q133⟩
def MX40 : List (Nat × Nat × Bool) := [(111, 0, true), (117, 0, false)]
theorem MX40_ok (X : XT) : ∀ r ∈ MX40, Cond.methodLink (cn 40) r.1 (if r.2.2 = true then Lib.Math.max.name else Lib.Math.min.name) ∈ lw_all := (List.forall_mem_cons.mpr ⟨q1606, (List.forall_mem_cons.mpr ⟨q1607, (fun _ h => nomatch h)⟩)⟩)
def MX42 : List (Nat × Nat × Bool) := [(213, 0, true)]
theorem MX42_ok (X : XT) : ∀ r ∈ MX42, Cond.methodLink (cn 42) r.1 (if r.2.2 = true then Lib.Math.max.name else Lib.Math.min.name) ∈ lw_all := (List.forall_mem_cons.mpr ⟨q2754, (fun _ h => nomatch h)⟩)
def MX2 : List (Nat × Nat × Bool) := [(138, 0, false)]
theorem MX2_ok (X : XT) : ∀ r ∈ MX2, Cond.methodLink (cn 2) r.1 (if r.2.2 = true then Lib.Math.max.name else Lib.Math.min.name) ∈ lw_all := (List.forall_mem_cons.mpr ⟨q2051, (fun _ h => nomatch h)⟩)
def MX18 : List (Nat × Nat × Bool) := [(38, 0, false), (92, 0, true)]
theorem MX18_ok (X : XT) : ∀ r ∈ MX18, Cond.methodLink (cn 18) r.1 (if r.2.2 = true then Lib.Math.max.name else Lib.Math.min.name) ∈ lw_all := (List.forall_mem_cons.mpr ⟨q2723, (List.forall_mem_cons.mpr ⟨q2722, (fun _ h => nomatch h)⟩)⟩)
def MX5 : List (Nat × Nat × Bool) := [(183, 0, false), (224, 0, true)]
theorem MX5_ok (X : XT) : ∀ r ∈ MX5, Cond.methodLink (cn 5) r.1 (if r.2.2 = true then Lib.Math.max.name else Lib.Math.min.name) ∈ lw_all := (List.forall_mem_cons.mpr ⟨q2731, (List.forall_mem_cons.mpr ⟨q2730, (fun _ h => nomatch h)⟩)⟩)
def MX7 : List (Nat × Nat × Bool) := [(79, 0, true)]
theorem MX7_ok (X : XT) : ∀ r ∈ MX7, Cond.methodLink (cn 7) r.1 (if r.2.2 = true then Lib.Math.max.name else Lib.Math.min.name) ∈ lw_all := (List.forall_mem_cons.mpr ⟨q335, (fun _ h => nomatch h)⟩)
def MX10 : List (Nat × Nat × Bool) := [(304, 0, false)]
theorem MX10_ok (X : XT) : ∀ r ∈ MX10, Cond.methodLink (cn 10) r.1 (if r.2.2 = true then Lib.Math.max.name else Lib.Math.min.name) ∈ lw_all := (List.forall_mem_cons.mpr ⟨q329, (fun _ h => nomatch h)⟩)
def MX8 : List (Nat × Nat × Bool) := [(194, 0, true)]
theorem MX8_ok (X : XT) : ∀ r ∈ MX8, Cond.methodLink (cn 8) r.1 (if r.2.2 = true then Lib.Math.max.name else Lib.Math.min.name) ∈ lw_all := (List.forall_mem_cons.mpr ⟨q278, (fun _ h => nomatch h)⟩)
def MXT : Nat → List (Nat × Nat × Bool)
  | 40 => MX40
  | 42 => MX42
  | 2 => MX2
  | 18 => MX18
  | 5 => MX5
  | 7 => MX7
  | 10 => MX10
  | 8 => MX8
  | _ => []
def MX (o i : Nat) : Option (Bool) := lk (MXT o) i 0
theorem MX_ok (X : XT) (o : Nat) : ∀ r ∈ MXT o, Cond.methodLink (cn o) r.1 (if r.2.2 = true then Lib.Math.max.name else Lib.Math.min.name) ∈ lw_all := by
  unfold MXT
  split
  · exact MX40_ok X
  · exact MX42_ok X
  · exact MX2_ok X
  · exact MX18_ok X
  · exact MX5_ok X
  · exact MX7_ok X
  · exact MX10_ok X
  · exact MX8_ok X
  · exact fun _ h => nomatch h
theorem mx_40_111 : MX 40 111 = some (true) := rfl
theorem mx_40_117 : MX 40 117 = some (false) := rfl
theorem mx_42_213 : MX 42 213 = some (true) := rfl
theorem mx_2_138 : MX 2 138 = some (false) := rfl
theorem mx_18_38 : MX 18 38 = some (false) := rfl
theorem mx_18_92 : MX 18 92 = some (true) := rfl
theorem mx_5_183 : MX 5 183 = some (false) := rfl
theorem mx_5_224 : MX 5 224 = some (true) := rfl
theorem mx_7_79 : MX 7 79 = some (true) := rfl
theorem mx_10_304 : MX 10 304 = some (false) := rfl
theorem mx_8_194 : MX 8 194 = some (true) := rfl
theorem mmax_words : Cond.static Lib.Math.max.name ∈ lw_all ∧ Cond.initialized "java/lang/Math" ∈ lw_all ∧ Cond.code Lib.Math.max.name Lib.Math.max.code 2 (some .int) ∈ lw_all := ⟨q279, q87, q280⟩
theorem mmin_words : Cond.static Lib.Math.min.name ∈ lw_all ∧ Cond.initialized "java/lang/Math" ∈ lw_all ∧ Cond.code Lib.Math.min.name Lib.Math.min.code 2 (some .int) ∈ lw_all := ⟨q330, q87, q331⟩
def GS2 : List (Nat × Nat × Nat) := [(18, 0, 0)]
theorem GS2_ok (X : XT) : ∀ r ∈ GS2, ∃ (C n ds : String) (v : Value), (gT (mkG X))[r.2.2]? = some (C, n, ds, v) ∧ Cond.fieldLink (cn 2) r.1 C n ds ∈ lw_all := (List.forall_mem_cons.mpr ⟨⟨_, _, _, _, rfl, q164⟩, (fun _ h => nomatch h)⟩)
def GS20 : List (Nat × Nat × Nat) := [(83, 0, 5), (87, 0, 6), (191, 0, 4), (195, 0, 7)]
theorem GS20_ok (X : XT) : ∀ r ∈ GS20, ∃ (C n ds : String) (v : Value), (gT (mkG X))[r.2.2]? = some (C, n, ds, v) ∧ Cond.fieldLink (cn 20) r.1 C n ds ∈ lw_all := (List.forall_mem_cons.mpr ⟨⟨_, _, _, _, rfl, q688⟩, (List.forall_mem_cons.mpr ⟨⟨_, _, _, _, rfl, q690⟩, (List.forall_mem_cons.mpr ⟨⟨_, _, _, _, rfl, q1935⟩, (List.forall_mem_cons.mpr ⟨⟨_, _, _, _, rfl, q1937⟩, (fun _ h => nomatch h)⟩)⟩)⟩)⟩)
def GS4 : List (Nat × Nat × Nat) := [(38, 0, 0), (1053, 0, 9)]
theorem GS4_ok (X : XT) : ∀ r ∈ GS4, ∃ (C n ds : String) (v : Value), (gT (mkG X))[r.2.2]? = some (C, n, ds, v) ∧ Cond.fieldLink (cn 4) r.1 C n ds ∈ lw_all := (List.forall_mem_cons.mpr ⟨⟨_, _, _, _, rfl, q640⟩, (List.forall_mem_cons.mpr ⟨⟨_, _, _, _, rfl, q618⟩, (fun _ h => nomatch h)⟩)⟩)
def GS5 : List (Nat × Nat × Nat) := [(44, 0, 1), (59, 0, 2), (63, 0, 3), (251, 0, 0), (403, 0, 5), (407, 0, 6)]
theorem GS5_ok (X : XT) : ∀ r ∈ GS5, ∃ (C n ds : String) (v : Value), (gT (mkG X))[r.2.2]? = some (C, n, ds, v) ∧ Cond.fieldLink (cn 5) r.1 C n ds ∈ lw_all := (List.forall_mem_cons.mpr ⟨⟨_, _, _, _, rfl, q626⟩, (List.forall_mem_cons.mpr ⟨⟨_, _, _, _, rfl, q628⟩, (List.forall_mem_cons.mpr ⟨⟨_, _, _, _, rfl, q630⟩, (List.forall_mem_cons.mpr ⟨⟨_, _, _, _, rfl, q2256⟩, (List.forall_mem_cons.mpr ⟨⟨_, _, _, _, rfl, q698⟩, (List.forall_mem_cons.mpr ⟨⟨_, _, _, _, rfl, q699⟩, (fun _ h => nomatch h)⟩)⟩)⟩)⟩)⟩)⟩)
def GS13 : List (Nat × Nat × Nat) := [(13, 0, 10), (20, 0, 11)]
theorem GS13_ok (X : XT) : ∀ r ∈ GS13, ∃ (C n ds : String) (v : Value), (gT (mkG X))[r.2.2]? = some (C, n, ds, v) ∧ Cond.fieldLink (cn 13) r.1 C n ds ∈ lw_all := (List.forall_mem_cons.mpr ⟨⟨_, _, _, _, rfl, q541⟩, (List.forall_mem_cons.mpr ⟨⟨_, _, _, _, rfl, q543⟩, (fun _ h => nomatch h)⟩)⟩)
def GS7 : List (Nat × Nat × Nat) := [(39, 0, 8)]
theorem GS7_ok (X : XT) : ∀ r ∈ GS7, ∃ (C n ds : String) (v : Value), (gT (mkG X))[r.2.2]? = some (C, n, ds, v) ∧ Cond.fieldLink (cn 7) r.1 C n ds ∈ lw_all := (List.forall_mem_cons.mpr ⟨⟨_, _, _, _, rfl, q203⟩, (fun _ h => nomatch h)⟩)
def GST : Nat → List (Nat × Nat × Nat)
  | 2 => GS2
  | 20 => GS20
  | 4 => GS4
  | 5 => GS5
  | 13 => GS13
  | 7 => GS7
  | _ => []
def GS (o i : Nat) : Option (Nat) := lk (GST o) i 0
theorem GS_ok (X : XT) (o : Nat) : ∀ r ∈ GST o, ∃ (C n ds : String) (v : Value), (gT (mkG X))[r.2.2]? = some (C, n, ds, v) ∧ Cond.fieldLink (cn o) r.1 C n ds ∈ lw_all := by
  unfold GST
  split
  · exact GS2_ok X
  · exact GS20_ok X
  · exact GS4_ok X
  · exact GS5_ok X
  · exact GS13_ok X
  · exact GS7_ok X
  · exact fun _ h => nomatch h
theorem gs_2_18 : GS 2 18 = some (0) := rfl
theorem gs_20_83 : GS 20 83 = some (5) := rfl
theorem gs_20_87 : GS 20 87 = some (6) := rfl
theorem gs_20_191 : GS 20 191 = some (4) := rfl
theorem gs_20_195 : GS 20 195 = some (7) := rfl
theorem gs_4_38 : GS 4 38 = some (0) := rfl
theorem gs_4_1053 : GS 4 1053 = some (9) := rfl
theorem gs_5_44 : GS 5 44 = some (1) := rfl
theorem gs_5_59 : GS 5 59 = some (2) := rfl
theorem gs_5_63 : GS 5 63 = some (3) := rfl
theorem gs_5_251 : GS 5 251 = some (0) := rfl
theorem gs_5_403 : GS 5 403 = some (5) := rfl
theorem gs_5_407 : GS 5 407 = some (6) := rfl
theorem gs_13_13 : GS 13 13 = some (10) := rfl
theorem gs_13_20 : GS 13 20 = some (11) := rfl
theorem gs_7_39 : GS 7 39 = some (8) := rfl
theorem sv_0 (X : XT) : ((gT (mkG X))[0]?).map (fun x => x.2.2.2) = some (.int 1) := rfl
theorem sv_1 (X : XT) : ((gT (mkG X))[1]?).map (fun x => x.2.2.2) = some (.int 1) := rfl
theorem sv_2 (X : XT) : ((gT (mkG X))[2]?).map (fun x => x.2.2.2) = some (.int 0) := rfl
theorem sv_3 (X : XT) : ((gT (mkG X))[3]?).map (fun x => x.2.2.2) = some (.int 8) := rfl
theorem sv_4 (X : XT) : ((gT (mkG X))[4]?).map (fun x => x.2.2.2) = some (.int 127) := rfl
theorem sv_5 (X : XT) : ((gT (mkG X))[5]?).map (fun x => x.2.2.2) = some (va_rf (xR X 0)) := rfl
theorem sv_6 (X : XT) : ((gT (mkG X))[6]?).map (fun x => x.2.2.2) = some (va_rf (xR X 1)) := rfl
theorem sv_7 (X : XT) : ((gT (mkG X))[7]?).map (fun x => x.2.2.2) = some (va_rf (xR X 2)) := rfl
theorem sv_8 (X : XT) : ((gT (mkG X))[8]?).map (fun x => x.2.2.2) = some (va_rf (xR X 3)) := rfl
theorem sv_9 (X : XT) : ((gT (mkG X))[9]?).map (fun x => x.2.2.2) = some (va_rf (xR X 4)) := rfl
theorem sv_10 (X : XT) : ((gT (mkG X))[10]?).map (fun x => x.2.2.2) = some (va_rf (xR X 5)) := rfl
theorem sv_11 (X : XT) : ((gT (mkG X))[11]?).map (fun x => x.2.2.2) = some (va_rf (xR X 6)) := rfl
def LG39 : List (Nat × Nat × Nat) := [(47, 0, 0), (114, 0, 1), (120, 0, 2), (122, 0, 3), (124, 0, 4), (185, 0, 5), (187, 0, 6), (189, 0, 7), (230, 0, 8), (310, 0, 9), (328, 0, 10)]
theorem LG39_ok (X : XT) : ∀ r ∈ LG39, ∃ tx : String, (cn 39, r.1, tx, xS X r.2.2) ∈ gS (mkG X) := (List.forall_mem_cons.mpr ⟨⟨_, List.mem_of_getElem? (i := 0) rfl⟩, (List.forall_mem_cons.mpr ⟨⟨_, List.mem_of_getElem? (i := 1) rfl⟩, (List.forall_mem_cons.mpr ⟨⟨_, List.mem_of_getElem? (i := 2) rfl⟩, (List.forall_mem_cons.mpr ⟨⟨_, List.mem_of_getElem? (i := 3) rfl⟩, (List.forall_mem_cons.mpr ⟨⟨_, List.mem_of_getElem? (i := 4) rfl⟩, (List.forall_mem_cons.mpr ⟨⟨_, List.mem_of_getElem? (i := 5) rfl⟩, (List.forall_mem_cons.mpr ⟨⟨_, List.mem_of_getElem? (i := 6) rfl⟩, (List.forall_mem_cons.mpr ⟨⟨_, List.mem_of_getElem? (i := 7) rfl⟩, (List.forall_mem_cons.mpr ⟨⟨_, List.mem_of_getElem? (i := 8) rfl⟩, (List.forall_mem_cons.mpr ⟨⟨_, List.mem_of_getElem? (i := 9) rfl⟩, (List.forall_mem_cons.mpr ⟨⟨_, List.mem_of_getElem? (i := 10) rfl⟩, (fun _ h => nomatch h)⟩)⟩)⟩)⟩)⟩)⟩)⟩)⟩)⟩)⟩)⟩)
def LG44 : List (Nat × Nat × Nat) := [(30, 0, 11), (36, 0, 12), (38, 0, 13), (40, 0, 14), (42, 0, 15), (44, 0, 16), (46, 0, 17), (48, 0, 18), (50, 0, 19), (52, 0, 20)]
theorem LG44_ok (X : XT) : ∀ r ∈ LG44, ∃ tx : String, (cn 44, r.1, tx, xS X r.2.2) ∈ gS (mkG X) := (List.forall_mem_cons.mpr ⟨⟨_, List.mem_of_getElem? (i := 11) rfl⟩, (List.forall_mem_cons.mpr ⟨⟨_, List.mem_of_getElem? (i := 12) rfl⟩, (List.forall_mem_cons.mpr ⟨⟨_, List.mem_of_getElem? (i := 13) rfl⟩, (List.forall_mem_cons.mpr ⟨⟨_, List.mem_of_getElem? (i := 14) rfl⟩, (List.forall_mem_cons.mpr ⟨⟨_, List.mem_of_getElem? (i := 15) rfl⟩, (List.forall_mem_cons.mpr ⟨⟨_, List.mem_of_getElem? (i := 16) rfl⟩, (List.forall_mem_cons.mpr ⟨⟨_, List.mem_of_getElem? (i := 17) rfl⟩, (List.forall_mem_cons.mpr ⟨⟨_, List.mem_of_getElem? (i := 18) rfl⟩, (List.forall_mem_cons.mpr ⟨⟨_, List.mem_of_getElem? (i := 19) rfl⟩, (List.forall_mem_cons.mpr ⟨⟨_, List.mem_of_getElem? (i := 20) rfl⟩, (fun _ h => nomatch h)⟩)⟩)⟩)⟩)⟩)⟩)⟩)⟩)⟩)⟩)
def LG49 : List (Nat × Nat × Nat) := [(50, 0, 21), (52, 0, 22), (79, 0, 23), (92, 0, 24), (94, 0, 25), (96, 0, 26)]
theorem LG49_ok (X : XT) : ∀ r ∈ LG49, ∃ tx : String, (cn 49, r.1, tx, xS X r.2.2) ∈ gS (mkG X) := (List.forall_mem_cons.mpr ⟨⟨_, List.mem_of_getElem? (i := 21) rfl⟩, (List.forall_mem_cons.mpr ⟨⟨_, List.mem_of_getElem? (i := 22) rfl⟩, (List.forall_mem_cons.mpr ⟨⟨_, List.mem_of_getElem? (i := 23) rfl⟩, (List.forall_mem_cons.mpr ⟨⟨_, List.mem_of_getElem? (i := 24) rfl⟩, (List.forall_mem_cons.mpr ⟨⟨_, List.mem_of_getElem? (i := 25) rfl⟩, (List.forall_mem_cons.mpr ⟨⟨_, List.mem_of_getElem? (i := 26) rfl⟩, (fun _ h => nomatch h)⟩)⟩)⟩)⟩)⟩)⟩)
def LG46 : List (Nat × Nat × Nat) := [(27, 0, 27), (39, 0, 28), (47, 0, 29), (49, 0, 30)]
theorem LG46_ok (X : XT) : ∀ r ∈ LG46, ∃ tx : String, (cn 46, r.1, tx, xS X r.2.2) ∈ gS (mkG X) := (List.forall_mem_cons.mpr ⟨⟨_, List.mem_of_getElem? (i := 27) rfl⟩, (List.forall_mem_cons.mpr ⟨⟨_, List.mem_of_getElem? (i := 28) rfl⟩, (List.forall_mem_cons.mpr ⟨⟨_, List.mem_of_getElem? (i := 29) rfl⟩, (List.forall_mem_cons.mpr ⟨⟨_, List.mem_of_getElem? (i := 30) rfl⟩, (fun _ h => nomatch h)⟩)⟩)⟩)⟩)
def LG42 : List (Nat × Nat × Nat) := [(32, 0, 31), (188, 0, 32), (196, 0, 33), (225, 0, 34), (234, 0, 35), (240, 0, 36), (242, 0, 37), (244, 0, 38), (250, 0, 39), (252, 0, 40), (254, 0, 41), (256, 0, 42), (258, 0, 43)]
theorem LG42_ok (X : XT) : ∀ r ∈ LG42, ∃ tx : String, (cn 42, r.1, tx, xS X r.2.2) ∈ gS (mkG X) := (List.forall_mem_cons.mpr ⟨⟨_, List.mem_of_getElem? (i := 31) rfl⟩, (List.forall_mem_cons.mpr ⟨⟨_, List.mem_of_getElem? (i := 32) rfl⟩, (List.forall_mem_cons.mpr ⟨⟨_, List.mem_of_getElem? (i := 33) rfl⟩, (List.forall_mem_cons.mpr ⟨⟨_, List.mem_of_getElem? (i := 34) rfl⟩, (List.forall_mem_cons.mpr ⟨⟨_, List.mem_of_getElem? (i := 35) rfl⟩, (List.forall_mem_cons.mpr ⟨⟨_, List.mem_of_getElem? (i := 36) rfl⟩, (List.forall_mem_cons.mpr ⟨⟨_, List.mem_of_getElem? (i := 37) rfl⟩, (List.forall_mem_cons.mpr ⟨⟨_, List.mem_of_getElem? (i := 38) rfl⟩, (List.forall_mem_cons.mpr ⟨⟨_, List.mem_of_getElem? (i := 39) rfl⟩, (List.forall_mem_cons.mpr ⟨⟨_, List.mem_of_getElem? (i := 40) rfl⟩, (List.forall_mem_cons.mpr ⟨⟨_, List.mem_of_getElem? (i := 41) rfl⟩, (List.forall_mem_cons.mpr ⟨⟨_, List.mem_of_getElem? (i := 42) rfl⟩, (List.forall_mem_cons.mpr ⟨⟨_, List.mem_of_getElem? (i := 43) rfl⟩, (fun _ h => nomatch h)⟩)⟩)⟩)⟩)⟩)⟩)⟩)⟩)⟩)⟩)⟩)⟩)⟩)
def LG30 : List (Nat × Nat × Nat) := [(13, 0, 44)]
theorem LG30_ok (X : XT) : ∀ r ∈ LG30, ∃ tx : String, (cn 30, r.1, tx, xS X r.2.2) ∈ gS (mkG X) := (List.forall_mem_cons.mpr ⟨⟨_, List.mem_of_getElem? (i := 44) rfl⟩, (fun _ h => nomatch h)⟩)
def LG34 : List (Nat × Nat × Nat) := [(13, 0, 45)]
theorem LG34_ok (X : XT) : ∀ r ∈ LG34, ∃ tx : String, (cn 34, r.1, tx, xS X r.2.2) ∈ gS (mkG X) := (List.forall_mem_cons.mpr ⟨⟨_, List.mem_of_getElem? (i := 45) rfl⟩, (fun _ h => nomatch h)⟩)
def LG18 : List (Nat × Nat × Nat) := [(151, 0, 46)]
theorem LG18_ok (X : XT) : ∀ r ∈ LG18, ∃ tx : String, (cn 18, r.1, tx, xS X r.2.2) ∈ gS (mkG X) := (List.forall_mem_cons.mpr ⟨⟨_, List.mem_of_getElem? (i := 46) rfl⟩, (fun _ h => nomatch h)⟩)
def LG5 : List (Nat × Nat × Nat) := [(295, 0, 47)]
theorem LG5_ok (X : XT) : ∀ r ∈ LG5, ∃ tx : String, (cn 5, r.1, tx, xS X r.2.2) ∈ gS (mkG X) := (List.forall_mem_cons.mpr ⟨⟨_, List.mem_of_getElem? (i := 47) rfl⟩, (fun _ h => nomatch h)⟩)
def LG13 : List (Nat × Nat × Nat) := [(81, 0, 48)]
theorem LG13_ok (X : XT) : ∀ r ∈ LG13, ∃ tx : String, (cn 13, r.1, tx, xS X r.2.2) ∈ gS (mkG X) := (List.forall_mem_cons.mpr ⟨⟨_, List.mem_of_getElem? (i := 48) rfl⟩, (fun _ h => nomatch h)⟩)
def LG1 : List (Nat × Nat × Nat) := [(35, 0, 49)]
theorem LG1_ok (X : XT) : ∀ r ∈ LG1, ∃ tx : String, (cn 1, r.1, tx, xS X r.2.2) ∈ gS (mkG X) := (List.forall_mem_cons.mpr ⟨⟨_, List.mem_of_getElem? (i := 49) rfl⟩, (fun _ h => nomatch h)⟩)
def LG7 : List (Nat × Nat × Nat) := [(201, 0, 50), (203, 0, 51)]
theorem LG7_ok (X : XT) : ∀ r ∈ LG7, ∃ tx : String, (cn 7, r.1, tx, xS X r.2.2) ∈ gS (mkG X) := (List.forall_mem_cons.mpr ⟨⟨_, List.mem_of_getElem? (i := 50) rfl⟩, (List.forall_mem_cons.mpr ⟨⟨_, List.mem_of_getElem? (i := 51) rfl⟩, (fun _ h => nomatch h)⟩)⟩)
def LG10 : List (Nat × Nat × Nat) := [(48, 0, 52), (57, 0, 53), (59, 0, 54), (337, 0, 55)]
theorem LG10_ok (X : XT) : ∀ r ∈ LG10, ∃ tx : String, (cn 10, r.1, tx, xS X r.2.2) ∈ gS (mkG X) := (List.forall_mem_cons.mpr ⟨⟨_, List.mem_of_getElem? (i := 52) rfl⟩, (List.forall_mem_cons.mpr ⟨⟨_, List.mem_of_getElem? (i := 53) rfl⟩, (List.forall_mem_cons.mpr ⟨⟨_, List.mem_of_getElem? (i := 54) rfl⟩, (List.forall_mem_cons.mpr ⟨⟨_, List.mem_of_getElem? (i := 55) rfl⟩, (fun _ h => nomatch h)⟩)⟩)⟩)⟩)
def LG32 : List (Nat × Nat × Nat) := [(100, 0, 56), (109, 0, 57)]
theorem LG32_ok (X : XT) : ∀ r ∈ LG32, ∃ tx : String, (cn 32, r.1, tx, xS X r.2.2) ∈ gS (mkG X) := (List.forall_mem_cons.mpr ⟨⟨_, List.mem_of_getElem? (i := 56) rfl⟩, (List.forall_mem_cons.mpr ⟨⟨_, List.mem_of_getElem? (i := 57) rfl⟩, (fun _ h => nomatch h)⟩)⟩)
def LG8 : List (Nat × Nat × Nat) := [(92, 0, 58)]
theorem LG8_ok (X : XT) : ∀ r ∈ LG8, ∃ tx : String, (cn 8, r.1, tx, xS X r.2.2) ∈ gS (mkG X) := (List.forall_mem_cons.mpr ⟨⟨_, List.mem_of_getElem? (i := 58) rfl⟩, (fun _ h => nomatch h)⟩)
def LGT : Nat → List (Nat × Nat × Nat)
  | 39 => LG39
  | 44 => LG44
  | 49 => LG49
  | 46 => LG46
  | 42 => LG42
  | 30 => LG30
  | 34 => LG34
  | 18 => LG18
  | 5 => LG5
  | 13 => LG13
  | 1 => LG1
  | 7 => LG7
  | 10 => LG10
  | 32 => LG32
  | 8 => LG8
  | _ => []
def LG (o i : Nat) : Option (Nat) := lk (LGT o) i 0
theorem LG_ok (X : XT) (o : Nat) : ∀ r ∈ LGT o, ∃ tx : String, (cn o, r.1, tx, xS X r.2.2) ∈ gS (mkG X) := by
  unfold LGT
  split
  · exact LG39_ok X
  · exact LG44_ok X
  · exact LG49_ok X
  · exact LG46_ok X
  · exact LG42_ok X
  · exact LG30_ok X
  · exact LG34_ok X
  · exact LG18_ok X
  · exact LG5_ok X
  · exact LG13_ok X
  · exact LG1_ok X
  · exact LG7_ok X
  · exact LG10_ok X
  · exact LG32_ok X
  · exact LG8_ok X
  · exact fun _ h => nomatch h
theorem ls_39_47 : LG 39 47 = some (0) := rfl
theorem ls_39_114 : LG 39 114 = some (1) := rfl
theorem ls_39_120 : LG 39 120 = some (2) := rfl
theorem ls_39_122 : LG 39 122 = some (3) := rfl
theorem ls_39_124 : LG 39 124 = some (4) := rfl
theorem ls_39_185 : LG 39 185 = some (5) := rfl
theorem ls_39_187 : LG 39 187 = some (6) := rfl
theorem ls_39_189 : LG 39 189 = some (7) := rfl
theorem ls_39_230 : LG 39 230 = some (8) := rfl
theorem ls_39_310 : LG 39 310 = some (9) := rfl
theorem ls_39_328 : LG 39 328 = some (10) := rfl
theorem ls_44_30 : LG 44 30 = some (11) := rfl
theorem ls_44_36 : LG 44 36 = some (12) := rfl
theorem ls_44_38 : LG 44 38 = some (13) := rfl
theorem ls_44_40 : LG 44 40 = some (14) := rfl
theorem ls_44_42 : LG 44 42 = some (15) := rfl
theorem ls_44_44 : LG 44 44 = some (16) := rfl
theorem ls_44_46 : LG 44 46 = some (17) := rfl
theorem ls_44_48 : LG 44 48 = some (18) := rfl
theorem ls_44_50 : LG 44 50 = some (19) := rfl
theorem ls_44_52 : LG 44 52 = some (20) := rfl
theorem ls_49_50 : LG 49 50 = some (21) := rfl
theorem ls_49_52 : LG 49 52 = some (22) := rfl
theorem ls_49_79 : LG 49 79 = some (23) := rfl
theorem ls_49_92 : LG 49 92 = some (24) := rfl
theorem ls_49_94 : LG 49 94 = some (25) := rfl
theorem ls_49_96 : LG 49 96 = some (26) := rfl
theorem ls_46_27 : LG 46 27 = some (27) := rfl
theorem ls_46_39 : LG 46 39 = some (28) := rfl
theorem ls_46_47 : LG 46 47 = some (29) := rfl
theorem ls_46_49 : LG 46 49 = some (30) := rfl
theorem ls_42_32 : LG 42 32 = some (31) := rfl
theorem ls_42_188 : LG 42 188 = some (32) := rfl
theorem ls_42_196 : LG 42 196 = some (33) := rfl
theorem ls_42_225 : LG 42 225 = some (34) := rfl
theorem ls_42_234 : LG 42 234 = some (35) := rfl
theorem ls_42_240 : LG 42 240 = some (36) := rfl
theorem ls_42_242 : LG 42 242 = some (37) := rfl
theorem ls_42_244 : LG 42 244 = some (38) := rfl
theorem ls_42_250 : LG 42 250 = some (39) := rfl
theorem ls_42_252 : LG 42 252 = some (40) := rfl
theorem ls_42_254 : LG 42 254 = some (41) := rfl
theorem ls_42_256 : LG 42 256 = some (42) := rfl
theorem ls_42_258 : LG 42 258 = some (43) := rfl
theorem ls_30_13 : LG 30 13 = some (44) := rfl
theorem ls_34_13 : LG 34 13 = some (45) := rfl
theorem ls_18_151 : LG 18 151 = some (46) := rfl
theorem ls_5_295 : LG 5 295 = some (47) := rfl
theorem ls_13_81 : LG 13 81 = some (48) := rfl
theorem ls_1_35 : LG 1 35 = some (49) := rfl
theorem ls_7_201 : LG 7 201 = some (50) := rfl
theorem ls_7_203 : LG 7 203 = some (51) := rfl
theorem ls_10_48 : LG 10 48 = some (52) := rfl
theorem ls_10_57 : LG 10 57 = some (53) := rfl
theorem ls_10_59 : LG 10 59 = some (54) := rfl
theorem ls_10_337 : LG 10 337 = some (55) := rfl
theorem ls_32_100 : LG 32 100 = some (56) := rfl
theorem ls_32_109 : LG 32 109 = some (57) := rfl
theorem ls_8_92 : LG 8 92 = some (58) := rfl
def LI2 : List (Nat × Nat × Int32) := [(39, 0, 2147483647)]
theorem LI2_ok (X : XT) : ∀ r ∈ LI2, Cond.constant (cn 2) r.1 r.2.2 ∈ lw_all := (List.forall_mem_cons.mpr ⟨q590, (fun _ h => nomatch h)⟩)
def LI35 : List (Nat × Nat × Int32) := [(76, 0, 56320), (110, 0, 55232)]
theorem LI35_ok (X : XT) : ∀ r ∈ LI35, Cond.constant (cn 35) r.1 r.2.2 ∈ lw_all := (List.forall_mem_cons.mpr ⟨q2752, (List.forall_mem_cons.mpr ⟨q2748, (fun _ h => nomatch h)⟩)⟩)
def LI5 : List (Nat × Nat × Int32) := [(20, 0, 1073741823), (227, 0, 65536)]
theorem LI5_ok (X : XT) : ∀ r ∈ LI5, Cond.constant (cn 5) r.1 r.2.2 ∈ lw_all := (List.forall_mem_cons.mpr ⟨q172, (List.forall_mem_cons.mpr ⟨q2732, (fun _ h => nomatch h)⟩)⟩)
def LI1 : List (Nat × Nat × Int32) := [(9, 0, 2147483639), (41, 0, 2147483647)]
theorem LI1_ok (X : XT) : ∀ r ∈ LI1, Cond.constant (cn 1) r.1 r.2.2 ∈ lw_all := (List.forall_mem_cons.mpr ⟨q1649, (List.forall_mem_cons.mpr ⟨q1670, (fun _ h => nomatch h)⟩)⟩)
def LI8 : List (Nat × Nat × Int32) := [(200, 0, 2147483639)]
theorem LI8_ok (X : XT) : ∀ r ∈ LI8, Cond.constant (cn 8) r.1 r.2.2 ∈ lw_all := (List.forall_mem_cons.mpr ⟨q281, (fun _ h => nomatch h)⟩)
def LIT : Nat → List (Nat × Nat × Int32)
  | 2 => LI2
  | 35 => LI35
  | 5 => LI5
  | 1 => LI1
  | 8 => LI8
  | _ => []
def LI (o i : Nat) : Option (Int32) := lk (LIT o) i 0
theorem LI_ok (X : XT) (o : Nat) : ∀ r ∈ LIT o, Cond.constant (cn o) r.1 r.2.2 ∈ lw_all := by
  unfold LIT
  split
  · exact LI2_ok X
  · exact LI35_ok X
  · exact LI5_ok X
  · exact LI1_ok X
  · exact LI8_ok X
  · exact fun _ h => nomatch h
theorem li_2_39 : LI 2 39 = some (2147483647) := rfl
theorem li_35_76 : LI 35 76 = some (56320) := rfl
theorem li_35_110 : LI 35 110 = some (55232) := rfl
theorem li_5_20 : LI 5 20 = some (1073741823) := rfl
theorem li_5_227 : LI 5 227 = some (65536) := rfl
theorem li_1_9 : LI 1 9 = some (2147483639) := rfl
theorem li_1_41 : LI 1 41 = some (2147483647) := rfl
theorem li_8_200 : LI 8 200 = some (2147483639) := rfl
def LM1 : List (Nat × Nat × Nat) := [(188, 0, 0)]
theorem LM1_ok (X : XT) : ∀ r ∈ LM1, Cond.classLink (cn 1) r.1 "[Ljava/lang/Object;" ∈ lw_all := (List.forall_mem_cons.mpr ⟨q1174, (fun _ h => nomatch h)⟩)
def LM10 : List (Nat × Nat × Nat) := [(110, 0, 0)]
theorem LM10_ok (X : XT) : ∀ r ∈ LM10, Cond.classLink (cn 10) r.1 "[Ljava/lang/Object;" ∈ lw_all := (List.forall_mem_cons.mpr ⟨q327, (fun _ h => nomatch h)⟩)
def LMT : Nat → List (Nat × Nat × Nat)
  | 1 => LM1
  | 10 => LM10
  | _ => []
def LM (o i : Nat) : Option (Nat) := lk (LMT o) i 0
theorem LM_ok (X : XT) (o : Nat) : ∀ r ∈ LMT o, Cond.classLink (cn o) r.1 "[Ljava/lang/Object;" ∈ lw_all := by
  unfold LMT
  split
  · exact LM1_ok X
  · exact LM10_ok X
  · exact fun _ h => nomatch h
theorem lm_1_188 : LM 1 188 = some (0) := rfl
theorem lm_10_110 : LM 10 110 = some (0) := rfl
def AO1 : List (Nat × Nat × Nat) := [(47, 0, 0)]
theorem AO1_ok (X : XT) : ∀ r ∈ AO1, Cond.classLink (cn 1) r.1 "java/lang/Object" ∈ lw_all := (List.forall_mem_cons.mpr ⟨q143, (fun _ h => nomatch h)⟩)
def AO7 : List (Nat × Nat × Nat) := [(7, 0, 0)]
theorem AO7_ok (X : XT) : ∀ r ∈ AO7, Cond.classLink (cn 7) r.1 "java/lang/Object" ∈ lw_all := (List.forall_mem_cons.mpr ⟨q336, (fun _ h => nomatch h)⟩)
def AO10 : List (Nat × Nat × Nat) := [(2, 0, 0)]
theorem AO10_ok (X : XT) : ∀ r ∈ AO10, Cond.classLink (cn 10) r.1 "java/lang/Object" ∈ lw_all := (List.forall_mem_cons.mpr ⟨q328, (fun _ h => nomatch h)⟩)
def AO32 : List (Nat × Nat × Nat) := [(68, 0, 0)]
theorem AO32_ok (X : XT) : ∀ r ∈ AO32, Cond.classLink (cn 32) r.1 "java/lang/Object" ∈ lw_all := (List.forall_mem_cons.mpr ⟨q1195, (fun _ h => nomatch h)⟩)
def AOT : Nat → List (Nat × Nat × Nat)
  | 1 => AO1
  | 7 => AO7
  | 10 => AO10
  | 32 => AO32
  | _ => []
def AO (o i : Nat) : Option (Nat) := lk (AOT o) i 0
theorem AO_ok (X : XT) (o : Nat) : ∀ r ∈ AOT o, Cond.classLink (cn o) r.1 "java/lang/Object" ∈ lw_all := by
  unfold AOT
  split
  · exact AO1_ok X
  · exact AO7_ok X
  · exact AO10_ok X
  · exact AO32_ok X
  · exact fun _ h => nomatch h
theorem ao_1_47 : AO 1 47 = some (0) := rfl
theorem ao_7_7 : AO 7 7 = some (0) := rfl
theorem ao_10_2 : AO 10 2 = some (0) := rfl
theorem ao_32_68 : AO 32 68 = some (0) := rfl
def KK39_0 : List (Nat × Nat × Nat) := [(1, 21, 0), (7, 22, 0), (10, 23, 0), (13, 24, 0), (16, 6, 0), (26, 12, 0), (33, 13, 0), (40, 1, 0), (80, 25, 0), (87, 5, 0), (112, 4, 0), (167, 7, 0), (205, 8, 0), (214, 2, 0), (272, 9, 0), (284, 17, 0), (289, 20, 0), (372, 26, 0), (378, 10, 0), (390, 11, 0)]
theorem KK39_0_ok (X : XT) : ∀ r ∈ KK39_0, ∃ (r2 : vw_C) (nm : String), (gC (mkG X))[r.2.1]? = some r2 ∧ Cond.classLink (cn 39) r.1 nm ∈ lw_all ∧ (r2.1 = nm ∨ Cond.castable r2.1 nm ∈ gW (mkG X)) := (List.forall_mem_cons.mpr ⟨⟨_, "java/lang/IllegalArgumentException", rfl, q1340, Or.inl rfl⟩, (List.forall_mem_cons.mpr ⟨⟨_, "java/lang/IndexOutOfBoundsException", rfl, q1414, Or.inl rfl⟩, (List.forall_mem_cons.mpr ⟨⟨_, "java/lang/IllegalStateException", rfl, q2114, Or.inl rfl⟩, (List.forall_mem_cons.mpr ⟨⟨_, "java/util/NoSuchElementException", rfl, q932, Or.inl rfl⟩, (List.forall_mem_cons.mpr ⟨⟨_, "TheatreSaga$Refusal", rfl, q1233, Or.inl rfl⟩, (List.forall_mem_cons.mpr ⟨⟨_, "java/util/ArrayDeque", rfl, q134, Or.inl rfl⟩, (List.forall_mem_cons.mpr ⟨⟨_, "java/lang/StringBuilder", rfl, q155, Or.inl rfl⟩, (List.forall_mem_cons.mpr ⟨⟨_, "TheatreSaga$Theatre", rfl, q188, Or.inl rfl⟩, (List.forall_mem_cons.mpr ⟨⟨_, "java/lang/UnsupportedOperationException", rfl, q1676, Or.inl rfl⟩, (List.forall_mem_cons.mpr ⟨⟨_, "TheatreSaga$Deed", rfl, q1234, Or.inl rfl⟩, (List.forall_mem_cons.mpr ⟨⟨_, "TheatreSaga$Theatre$Tour", rfl, q1743, Or.inl rfl⟩, (List.forall_mem_cons.mpr ⟨⟨_, "TheatreSaga$Step", rfl, q1753, Or.inl rfl⟩, (List.forall_mem_cons.mpr ⟨⟨_, "TheatreSaga$Walk", rfl, q1853, Or.inl rfl⟩, (List.forall_mem_cons.mpr ⟨⟨_, "TheatreSaga$Town", rfl, q1782, Or.inl rfl⟩, (List.forall_mem_cons.mpr ⟨⟨_, "TheatreSaga$1Choice", rfl, q1863, Or.inl rfl⟩, (List.forall_mem_cons.mpr ⟨⟨_, "java/util/LinkedList", rfl, q1901, Or.inl rfl⟩, (List.forall_mem_cons.mpr ⟨⟨_, "java/lang/Integer", rfl, q1923, Or.inl rfl⟩, (List.forall_mem_cons.mpr ⟨⟨_, "java/lang/ArithmeticException", rfl, q2091, Or.inl rfl⟩, (List.forall_mem_cons.mpr ⟨⟨_, "TheatreSaga$Parser", rfl, q2131, Or.inl rfl⟩, (List.forall_mem_cons.mpr ⟨⟨_, "TheatreSaga$FaultException", rfl, q2130, Or.inl rfl⟩, (fun _ h => nomatch h)⟩)⟩)⟩)⟩)⟩)⟩)⟩)⟩)⟩)⟩)⟩)⟩)⟩)⟩)⟩)⟩)⟩)⟩)⟩)⟩)
def KK39 : List (Nat × Nat × Nat) := KK39_0
theorem KK39_ok (X : XT) : ∀ r ∈ KK39, ∃ (r2 : vw_C) (nm : String), (gC (mkG X))[r.2.1]? = some r2 ∧ Cond.classLink (cn 39) r.1 nm ∈ lw_all ∧ (r2.1 = nm ∨ Cond.castable r2.1 nm ∈ gW (mkG X)) := KK39_0_ok X
def KK48_0 : List (Nat × Nat × Nat) := [(44, 2, 0)]
theorem KK48_0_ok (X : XT) : ∀ r ∈ KK48_0, ∃ (r2 : vw_C) (nm : String), (gC (mkG X))[r.2.1]? = some r2 ∧ Cond.classLink (cn 48) r.1 nm ∈ lw_all ∧ (r2.1 = nm ∨ Cond.castable r2.1 nm ∈ gW (mkG X)) := (List.forall_mem_cons.mpr ⟨⟨_, "TheatreSaga$Town", rfl, q1892, Or.inl rfl⟩, (fun _ h => nomatch h)⟩)
def KK48 : List (Nat × Nat × Nat) := KK48_0
theorem KK48_ok (X : XT) : ∀ r ∈ KK48, ∃ (r2 : vw_C) (nm : String), (gC (mkG X))[r.2.1]? = some r2 ∧ Cond.classLink (cn 48) r.1 nm ∈ lw_all ∧ (r2.1 = nm ∨ Cond.castable r2.1 nm ∈ gW (mkG X)) := KK48_0_ok X
def KK44_0 : List (Nat × Nat × Nat) := [(19, 7, 0), (77, 4, 0)]
theorem KK44_0_ok (X : XT) : ∀ r ∈ KK44_0, ∃ (r2 : vw_C) (nm : String), (gC (mkG X))[r.2.1]? = some r2 ∧ Cond.classLink (cn 44) r.1 nm ∈ lw_all ∧ (r2.1 = nm ∨ Cond.castable r2.1 nm ∈ gW (mkG X)) := (List.forall_mem_cons.mpr ⟨⟨_, "TheatreSaga$Step", rfl, q1382, Or.inl rfl⟩, (List.forall_mem_cons.mpr ⟨⟨_, "TheatreSaga$Theatre$Tour", rfl, q1523, Or.inl rfl⟩, (fun _ h => nomatch h)⟩)⟩)
def KK44 : List (Nat × Nat × Nat) := KK44_0
theorem KK44_ok (X : XT) : ∀ r ∈ KK44, ∃ (r2 : vw_C) (nm : String), (gC (mkG X))[r.2.1]? = some r2 ∧ Cond.classLink (cn 44) r.1 nm ∈ lw_all ∧ (r2.1 = nm ∨ Cond.castable r2.1 nm ∈ gW (mkG X)) := KK44_0_ok X
def KK49_0 : List (Nat × Nat × Nat) := [(24, 13, 0), (41, 11, 0), (98, 5, 0), (103, 17, 0)]
theorem KK49_0_ok (X : XT) : ∀ r ∈ KK49_0, ∃ (r2 : vw_C) (nm : String), (gC (mkG X))[r.2.1]? = some r2 ∧ Cond.classLink (cn 49) r.1 nm ∈ lw_all ∧ (r2.1 = nm ∨ Cond.castable r2.1 nm ∈ gW (mkG X)) := (List.forall_mem_cons.mpr ⟨⟨_, "java/lang/StringBuilder", rfl, q2160, Or.inl rfl⟩, (List.forall_mem_cons.mpr ⟨⟨_, "TheatreSaga$FaultException", rfl, q2210, Or.inl rfl⟩, (List.forall_mem_cons.mpr ⟨⟨_, "TheatreSaga$Deed", rfl, q2271, Or.inl rfl⟩, (List.forall_mem_cons.mpr ⟨⟨_, "java/util/LinkedList", rfl, q2148, Or.inl rfl⟩, (fun _ h => nomatch h)⟩)⟩)⟩)⟩)
def KK49 : List (Nat × Nat × Nat) := KK49_0
theorem KK49_ok (X : XT) : ∀ r ∈ KK49, ∃ (r2 : vw_C) (nm : String), (gC (mkG X))[r.2.1]? = some r2 ∧ Cond.classLink (cn 49) r.1 nm ∈ lw_all ∧ (r2.1 = nm ∨ Cond.castable r2.1 nm ∈ gW (mkG X)) := KK49_0_ok X
def KK46_0 : List (Nat × Nat × Nat) := [(24, 13, 0)]
theorem KK46_0_ok (X : XT) : ∀ r ∈ KK46_0, ∃ (r2 : vw_C) (nm : String), (gC (mkG X))[r.2.1]? = some r2 ∧ Cond.classLink (cn 46) r.1 nm ∈ lw_all ∧ (r2.1 = nm ∨ Cond.castable r2.1 nm ∈ gW (mkG X)) := (List.forall_mem_cons.mpr ⟨⟨_, "java/lang/StringBuilder", rfl, q2004, Or.inl rfl⟩, (fun _ h => nomatch h)⟩)
def KK46 : List (Nat × Nat × Nat) := KK46_0
theorem KK46_ok (X : XT) : ∀ r ∈ KK46, ∃ (r2 : vw_C) (nm : String), (gC (mkG X))[r.2.1]? = some r2 ∧ Cond.classLink (cn 46) r.1 nm ∈ lw_all ∧ (r2.1 = nm ∨ Cond.castable r2.1 nm ∈ gW (mkG X)) := KK46_0_ok X
def KK40_0 : List (Nat × Nat × Nat) := [(9, 15, 0), (25, 2, 0), (51, 4, 0)]
theorem KK40_0_ok (X : XT) : ∀ r ∈ KK40_0, ∃ (r2 : vw_C) (nm : String), (gC (mkG X))[r.2.1]? = some r2 ∧ Cond.classLink (cn 40) r.1 nm ∈ lw_all ∧ (r2.1 = nm ∨ Cond.castable r2.1 nm ∈ gW (mkG X)) := (List.forall_mem_cons.mpr ⟨⟨_, "java/util/ArrayList", rfl, q194, Or.inl rfl⟩, (List.forall_mem_cons.mpr ⟨⟨_, "TheatreSaga$Town", rfl, q224, Or.inl rfl⟩, (List.forall_mem_cons.mpr ⟨⟨_, "TheatreSaga$Theatre$Tour", rfl, q1095, Or.inl rfl⟩, (fun _ h => nomatch h)⟩)⟩)⟩)
def KK40 : List (Nat × Nat × Nat) := KK40_0
theorem KK40_ok (X : XT) : ∀ r ∈ KK40, ∃ (r2 : vw_C) (nm : String), (gC (mkG X))[r.2.1]? = some r2 ∧ Cond.classLink (cn 40) r.1 nm ∈ lw_all ∧ (r2.1 = nm ∨ Cond.castable r2.1 nm ∈ gW (mkG X)) := KK40_0_ok X
def KK43_0 : List (Nat × Nat × Nat) := [(15, 15, 0), (77, 8, 0), (96, 7, 0), (135, 2, 0)]
theorem KK43_0_ok (X : XT) : ∀ r ∈ KK43_0, ∃ (r2 : vw_C) (nm : String), (gC (mkG X))[r.2.1]? = some r2 ∧ Cond.classLink (cn 43) r.1 nm ∈ lw_all ∧ (r2.1 = nm ∨ Cond.castable r2.1 nm ∈ gW (mkG X)) := (List.forall_mem_cons.mpr ⟨⟨_, "java/util/ArrayList", rfl, q1104, Or.inl rfl⟩, (List.forall_mem_cons.mpr ⟨⟨_, "TheatreSaga$Walk", rfl, q1449, Or.inl rfl⟩, (List.forall_mem_cons.mpr ⟨⟨_, "TheatreSaga$Step", rfl, q1481, Or.inl rfl⟩, (List.forall_mem_cons.mpr ⟨⟨_, "TheatreSaga$Town", rfl, q1572, Or.inl rfl⟩, (fun _ h => nomatch h)⟩)⟩)⟩)⟩)
def KK43 : List (Nat × Nat × Nat) := KK43_0
theorem KK43_ok (X : XT) : ∀ r ∈ KK43, ∃ (r2 : vw_C) (nm : String), (gC (mkG X))[r.2.1]? = some r2 ∧ Cond.classLink (cn 43) r.1 nm ∈ lw_all ∧ (r2.1 = nm ∨ Cond.castable r2.1 nm ∈ gW (mkG X)) := KK43_0_ok X
def KK47_0 : List (Nat × Nat × Nat) := [(10, 8, 0), (46, 7, 0)]
theorem KK47_0_ok (X : XT) : ∀ r ∈ KK47_0, ∃ (r2 : vw_C) (nm : String), (gC (mkG X))[r.2.1]? = some r2 ∧ Cond.classLink (cn 47) r.1 nm ∈ lw_all ∧ (r2.1 = nm ∨ Cond.castable r2.1 nm ∈ gW (mkG X)) := (List.forall_mem_cons.mpr ⟨⟨_, "TheatreSaga$Walk", rfl, q1569, Or.inl rfl⟩, (List.forall_mem_cons.mpr ⟨⟨_, "TheatreSaga$Step", rfl, q986, Or.inl rfl⟩, (fun _ h => nomatch h)⟩)⟩)
def KK47 : List (Nat × Nat × Nat) := KK47_0
theorem KK47_ok (X : XT) : ∀ r ∈ KK47, ∃ (r2 : vw_C) (nm : String), (gC (mkG X))[r.2.1]? = some r2 ∧ Cond.classLink (cn 47) r.1 nm ∈ lw_all ∧ (r2.1 = nm ∨ Cond.castable r2.1 nm ∈ gW (mkG X)) := KK47_0_ok X
def KK38_0 : List (Nat × Nat × Nat) := [(8, 0, 0), (13, 21, 0), (15, 25, 0), (21, 22, 0), (59, 24, 0), (87, 26, 0), (97, 23, 0), (117, 3, 0)]
theorem KK38_0_ok (X : XT) : ∀ r ∈ KK38_0, ∃ (r2 : vw_C) (nm : String), (gC (mkG X))[r.2.1]? = some r2 ∧ Cond.classLink (cn 38) r.1 nm ∈ lw_all ∧ (r2.1 = nm ∨ Cond.castable r2.1 nm ∈ gW (mkG X)) := (List.forall_mem_cons.mpr ⟨⟨_, "TheatreSaga", rfl, q126, Or.inl rfl⟩, (List.forall_mem_cons.mpr ⟨⟨_, "java/lang/IllegalArgumentException", rfl, q1222, Or.inl rfl⟩, (List.forall_mem_cons.mpr ⟨⟨_, "java/lang/UnsupportedOperationException", rfl, q1223, Or.inl rfl⟩, (List.forall_mem_cons.mpr ⟨⟨_, "java/lang/IndexOutOfBoundsException", rfl, q1694, Or.inl rfl⟩, (List.forall_mem_cons.mpr ⟨⟨_, "java/util/NoSuchElementException", rfl, q1827, Or.inl rfl⟩, (List.forall_mem_cons.mpr ⟨⟨_, "java/lang/ArithmeticException", rfl, q2071, Or.inl rfl⟩, (List.forall_mem_cons.mpr ⟨⟨_, "java/lang/IllegalStateException", rfl, q2106, Or.inl rfl⟩, (List.forall_mem_cons.mpr ⟨⟨_, "TheatreSagaModel", rfl, q2384, Or.inl rfl⟩, (fun _ h => nomatch h)⟩)⟩)⟩)⟩)⟩)⟩)⟩)⟩)
def KK38 : List (Nat × Nat × Nat) := KK38_0
theorem KK38_ok (X : XT) : ∀ r ∈ KK38, ∃ (r2 : vw_C) (nm : String), (gC (mkG X))[r.2.1]? = some r2 ∧ Cond.classLink (cn 38) r.1 nm ∈ lw_all ∧ (r2.1 = nm ∨ Cond.castable r2.1 nm ∈ gW (mkG X)) := KK38_0_ok X
def KK30_0 : List (Nat × Nat × Nat) := [(10, 13, 0)]
theorem KK30_0_ok (X : XT) : ∀ r ∈ KK30_0, ∃ (r2 : vw_C) (nm : String), (gC (mkG X))[r.2.1]? = some r2 ∧ Cond.classLink (cn 30) r.1 nm ∈ lw_all ∧ (r2.1 = nm ∨ Cond.castable r2.1 nm ∈ gW (mkG X)) := (List.forall_mem_cons.mpr ⟨⟨_, "java/lang/StringBuilder", rfl, q2317, Or.inl rfl⟩, (fun _ h => nomatch h)⟩)
def KK30 : List (Nat × Nat × Nat) := KK30_0
theorem KK30_ok (X : XT) : ∀ r ∈ KK30, ∃ (r2 : vw_C) (nm : String), (gC (mkG X))[r.2.1]? = some r2 ∧ Cond.classLink (cn 30) r.1 nm ∈ lw_all ∧ (r2.1 = nm ∨ Cond.castable r2.1 nm ∈ gW (mkG X)) := KK30_0_ok X
def KK20_0 : List (Nat × Nat × Nat) := [(1, 20, 0)]
theorem KK20_0_ok (X : XT) : ∀ r ∈ KK20_0, ∃ (r2 : vw_C) (nm : String), (gC (mkG X))[r.2.1]? = some r2 ∧ Cond.classLink (cn 20) r.1 nm ∈ lw_all ∧ (r2.1 = nm ∨ Cond.castable r2.1 nm ∈ gW (mkG X)) := (List.forall_mem_cons.mpr ⟨⟨_, "java/lang/Integer", rfl, q1939, Or.inl rfl⟩, (fun _ h => nomatch h)⟩)
def KK20 : List (Nat × Nat × Nat) := KK20_0
theorem KK20_ok (X : XT) : ∀ r ∈ KK20, ∃ (r2 : vw_C) (nm : String), (gC (mkG X))[r.2.1]? = some r2 ∧ Cond.classLink (cn 20) r.1 nm ∈ lw_all ∧ (r2.1 = nm ∨ Cond.castable r2.1 nm ∈ gW (mkG X)) := KK20_0_ok X
def KK4_0 : List (Nat × Nat × Nat) := [(10, 14, 0)]
theorem KK4_0_ok (X : XT) : ∀ r ∈ KK4_0, ∃ (r2 : vw_C) (nm : String), (gC (mkG X))[r.2.1]? = some r2 ∧ Cond.classLink (cn 4) r.1 nm ∈ lw_all ∧ (r2.1 = nm ∨ Cond.castable r2.1 nm ∈ gW (mkG X)) := (List.forall_mem_cons.mpr ⟨⟨_, "java/lang/String", rfl, q1317, Or.inl rfl⟩, (fun _ h => nomatch h)⟩)
def KK4 : List (Nat × Nat × Nat) := KK4_0
theorem KK4_ok (X : XT) : ∀ r ∈ KK4, ∃ (r2 : vw_C) (nm : String), (gC (mkG X))[r.2.1]? = some r2 ∧ Cond.classLink (cn 4) r.1 nm ∈ lw_all ∧ (r2.1 = nm ∨ Cond.castable r2.1 nm ∈ gW (mkG X)) := KK4_0_ok X
def KK3_0 : List (Nat × Nat × Nat) := [(18, 14, 0)]
theorem KK3_0_ok (X : XT) : ∀ r ∈ KK3_0, ∃ (r2 : vw_C) (nm : String), (gC (mkG X))[r.2.1]? = some r2 ∧ Cond.classLink (cn 3) r.1 nm ∈ lw_all ∧ (r2.1 = nm ∨ Cond.castable r2.1 nm ∈ gW (mkG X)) := (List.forall_mem_cons.mpr ⟨⟨_, "java/lang/String", rfl, q705, Or.inl rfl⟩, (fun _ h => nomatch h)⟩)
def KK3 : List (Nat × Nat × Nat) := KK3_0
theorem KK3_ok (X : XT) : ∀ r ∈ KK3, ∃ (r2 : vw_C) (nm : String), (gC (mkG X))[r.2.1]? = some r2 ∧ Cond.classLink (cn 3) r.1 nm ∈ lw_all ∧ (r2.1 = nm ∨ Cond.castable r2.1 nm ∈ gW (mkG X)) := KK3_0_ok X
def KK34_0 : List (Nat × Nat × Nat) := [(10, 13, 0)]
theorem KK34_0_ok (X : XT) : ∀ r ∈ KK34_0, ∃ (r2 : vw_C) (nm : String), (gC (mkG X))[r.2.1]? = some r2 ∧ Cond.classLink (cn 34) r.1 nm ∈ lw_all ∧ (r2.1 = nm ∨ Cond.castable r2.1 nm ∈ gW (mkG X)) := (List.forall_mem_cons.mpr ⟨⟨_, "java/lang/StringBuilder", rfl, q2287, Or.inl rfl⟩, (fun _ h => nomatch h)⟩)
def KK34 : List (Nat × Nat × Nat) := KK34_0
theorem KK34_ok (X : XT) : ∀ r ∈ KK34, ∃ (r2 : vw_C) (nm : String), (gC (mkG X))[r.2.1]? = some r2 ∧ Cond.classLink (cn 34) r.1 nm ∈ lw_all ∧ (r2.1 = nm ∨ Cond.castable r2.1 nm ∈ gW (mkG X)) := KK34_0_ok X
def KK18_0 : List (Nat × Nat × Nat) := [(1, 14, 0)]
theorem KK18_0_ok (X : XT) : ∀ r ∈ KK18_0, ∃ (r2 : vw_C) (nm : String), (gC (mkG X))[r.2.1]? = some r2 ∧ Cond.classLink (cn 18) r.1 nm ∈ lw_all ∧ (r2.1 = nm ∨ Cond.castable r2.1 nm ∈ gW (mkG X)) := (List.forall_mem_cons.mpr ⟨⟨_, "java/lang/String", rfl, q2247, Or.inl rfl⟩, (fun _ h => nomatch h)⟩)
def KK18 : List (Nat × Nat × Nat) := KK18_0
theorem KK18_ok (X : XT) : ∀ r ∈ KK18, ∃ (r2 : vw_C) (nm : String), (gC (mkG X))[r.2.1]? = some r2 ∧ Cond.classLink (cn 18) r.1 nm ∈ lw_all ∧ (r2.1 = nm ∨ Cond.castable r2.1 nm ∈ gW (mkG X)) := KK18_0_ok X
def KK5_0 : List (Nat × Nat × Nat) := [(3, 14, 0)]
theorem KK5_0_ok (X : XT) : ∀ r ∈ KK5_0, ∃ (r2 : vw_C) (nm : String), (gC (mkG X))[r.2.1]? = some r2 ∧ Cond.classLink (cn 5) r.1 nm ∈ lw_all ∧ (r2.1 = nm ∨ Cond.castable r2.1 nm ∈ gW (mkG X)) := (List.forall_mem_cons.mpr ⟨⟨_, "java/lang/String", rfl, q2259, Or.inl rfl⟩, (fun _ h => nomatch h)⟩)
def KK5 : List (Nat × Nat × Nat) := KK5_0
theorem KK5_ok (X : XT) : ∀ r ∈ KK5, ∃ (r2 : vw_C) (nm : String), (gC (mkG X))[r.2.1]? = some r2 ∧ Cond.classLink (cn 5) r.1 nm ∈ lw_all ∧ (r2.1 = nm ∨ Cond.castable r2.1 nm ∈ gW (mkG X)) := KK5_0_ok X
def KK13_0 : List (Nat × Nat × Nat) := [(44, 13, 0)]
theorem KK13_0_ok (X : XT) : ∀ r ∈ KK13_0, ∃ (r2 : vw_C) (nm : String), (gC (mkG X))[r.2.1]? = some r2 ∧ Cond.classLink (cn 13) r.1 nm ∈ lw_all ∧ (r2.1 = nm ∨ Cond.castable r2.1 nm ∈ gW (mkG X)) := (List.forall_mem_cons.mpr ⟨⟨_, "java/lang/StringBuilder", rfl, q1058, Or.inl rfl⟩, (fun _ h => nomatch h)⟩)
def KK13 : List (Nat × Nat × Nat) := KK13_0
theorem KK13_ok (X : XT) : ∀ r ∈ KK13, ∃ (r2 : vw_C) (nm : String), (gC (mkG X))[r.2.1]? = some r2 ∧ Cond.classLink (cn 13) r.1 nm ∈ lw_all ∧ (r2.1 = nm ∨ Cond.castable r2.1 nm ∈ gW (mkG X)) := KK13_0_ok X
def KK22_0 : List (Nat × Nat × Nat) := [(41, 24, 0)]
theorem KK22_0_ok (X : XT) : ∀ r ∈ KK22_0, ∃ (r2 : vw_C) (nm : String), (gC (mkG X))[r.2.1]? = some r2 ∧ Cond.classLink (cn 22) r.1 nm ∈ lw_all ∧ (r2.1 = nm ∨ Cond.castable r2.1 nm ∈ gW (mkG X)) := (List.forall_mem_cons.mpr ⟨⟨_, "java/util/NoSuchElementException", rfl, q1002, Or.inl rfl⟩, (fun _ h => nomatch h)⟩)
def KK22 : List (Nat × Nat × Nat) := KK22_0
theorem KK22_ok (X : XT) : ∀ r ∈ KK22, ∃ (r2 : vw_C) (nm : String), (gC (mkG X))[r.2.1]? = some r2 ∧ Cond.classLink (cn 22) r.1 nm ∈ lw_all ∧ (r2.1 = nm ∨ Cond.castable r2.1 nm ∈ gW (mkG X)) := KK22_0_ok X
def KK1_0 : List (Nat × Nat × Nat) := [(33, 23, 0), (47, 0, 0), (47, 1, 0), (47, 2, 0), (47, 3, 0), (47, 4, 0), (47, 5, 0), (47, 6, 0), (47, 7, 0), (47, 8, 0), (47, 9, 0), (47, 10, 0), (47, 11, 0), (47, 12, 0), (47, 13, 0), (47, 14, 0), (47, 15, 0), (47, 16, 0), (47, 17, 0), (47, 18, 0), (47, 19, 0), (47, 20, 0), (47, 21, 0), (47, 22, 0), (47, 23, 0), (47, 24, 0), (47, 25, 0), (47, 26, 0), (97, 24, 0)]
theorem KK1_0_ok (X : XT) : ∀ r ∈ KK1_0, ∃ (r2 : vw_C) (nm : String), (gC (mkG X))[r.2.1]? = some r2 ∧ Cond.classLink (cn 1) r.1 nm ∈ lw_all ∧ (r2.1 = nm ∨ Cond.castable r2.1 nm ∈ gW (mkG X)) := (List.forall_mem_cons.mpr ⟨⟨_, "java/lang/IllegalStateException", rfl, q1654, Or.inl rfl⟩, (List.forall_mem_cons.mpr ⟨⟨_, "java/lang/Object", rfl, q143, Or.inr (List.mem_of_getElem? (i := 85) rfl)⟩, (List.forall_mem_cons.mpr ⟨⟨_, "java/lang/Object", rfl, q143, Or.inr (List.mem_of_getElem? (i := 88) rfl)⟩, (List.forall_mem_cons.mpr ⟨⟨_, "java/lang/Object", rfl, q143, Or.inr (List.mem_of_getElem? (i := 90) rfl)⟩, (List.forall_mem_cons.mpr ⟨⟨_, "java/lang/Object", rfl, q143, Or.inr (List.mem_of_getElem? (i := 91) rfl)⟩, (List.forall_mem_cons.mpr ⟨⟨_, "java/lang/Object", rfl, q143, Or.inr (List.mem_of_getElem? (i := 94) rfl)⟩, (List.forall_mem_cons.mpr ⟨⟨_, "java/lang/Object", rfl, q143, Or.inr (List.mem_of_getElem? (i := 97) rfl)⟩, (List.forall_mem_cons.mpr ⟨⟨_, "java/lang/Object", rfl, q143, Or.inr (List.mem_of_getElem? (i := 99) rfl)⟩, (List.forall_mem_cons.mpr ⟨⟨_, "java/lang/Object", rfl, q143, Or.inr (List.mem_of_getElem? (i := 100) rfl)⟩, (List.forall_mem_cons.mpr ⟨⟨_, "java/lang/Object", rfl, q143, Or.inr (List.mem_of_getElem? (i := 102) rfl)⟩, (List.forall_mem_cons.mpr ⟨⟨_, "java/lang/Object", rfl, q143, Or.inr (List.mem_of_getElem? (i := 106) rfl)⟩, (List.forall_mem_cons.mpr ⟨⟨_, "java/lang/Object", rfl, q143, Or.inr (List.mem_of_getElem? (i := 114) rfl)⟩, (List.forall_mem_cons.mpr ⟨⟨_, "java/lang/Object", rfl, q143, Or.inr (List.mem_of_getElem? (i := 115) rfl)⟩, (List.forall_mem_cons.mpr ⟨⟨_, "java/lang/Object", rfl, q143, Or.inr (List.mem_of_getElem? (i := 86) rfl)⟩, (List.forall_mem_cons.mpr ⟨⟨_, "java/lang/Object", rfl, q143, Or.inr (List.mem_of_getElem? (i := 87) rfl)⟩, (List.forall_mem_cons.mpr ⟨⟨_, "java/lang/Object", rfl, q143, Or.inr (List.mem_of_getElem? (i := 96) rfl)⟩, (List.forall_mem_cons.mpr ⟨⟨_, "java/lang/Object", rfl, q143, Or.inr (List.mem_of_getElem? (i := 89) rfl)⟩, (List.forall_mem_cons.mpr ⟨⟨_, "java/lang/Object", rfl, q143, Or.inr (List.mem_of_getElem? (i := 92) rfl)⟩, (List.forall_mem_cons.mpr ⟨⟨_, "java/lang/Object", rfl, q143, Or.inr (List.mem_of_getElem? (i := 107) rfl)⟩, (List.forall_mem_cons.mpr ⟨⟨_, "java/lang/Object", rfl, q143, Or.inr (List.mem_of_getElem? (i := 109) rfl)⟩, (List.forall_mem_cons.mpr ⟨⟨_, "java/lang/Object", rfl, q143, Or.inr (List.mem_of_getElem? (i := 112) rfl)⟩, (List.forall_mem_cons.mpr ⟨⟨_, "java/lang/Object", rfl, q143, Or.inr (List.mem_of_getElem? (i := 108) rfl)⟩, (List.forall_mem_cons.mpr ⟨⟨_, "java/lang/Object", rfl, q143, Or.inr (List.mem_of_getElem? (i := 95) rfl)⟩, (List.forall_mem_cons.mpr ⟨⟨_, "java/lang/Object", rfl, q143, Or.inr (List.mem_of_getElem? (i := 101) rfl)⟩, (List.forall_mem_cons.mpr ⟨⟨_, "java/lang/Object", rfl, q143, Or.inr (List.mem_of_getElem? (i := 103) rfl)⟩, (List.forall_mem_cons.mpr ⟨⟨_, "java/lang/Object", rfl, q143, Or.inr (List.mem_of_getElem? (i := 93) rfl)⟩, (List.forall_mem_cons.mpr ⟨⟨_, "java/lang/Object", rfl, q143, Or.inr (List.mem_of_getElem? (i := 104) rfl)⟩, (List.forall_mem_cons.mpr ⟨⟨_, "java/lang/Object", rfl, q143, Or.inr (List.mem_of_getElem? (i := 113) rfl)⟩, (List.forall_mem_cons.mpr ⟨⟨_, "java/util/NoSuchElementException", rfl, q1635, Or.inl rfl⟩, (fun _ h => nomatch h)⟩)⟩)⟩)⟩)⟩)⟩)⟩)⟩)⟩)⟩)⟩)⟩)⟩)⟩)⟩)⟩)⟩)⟩)⟩)⟩)⟩)⟩)⟩)⟩)⟩)⟩)⟩)⟩)⟩)
def KK1 : List (Nat × Nat × Nat) := KK1_0
theorem KK1_ok (X : XT) : ∀ r ∈ KK1, ∃ (r2 : vw_C) (nm : String), (gC (mkG X))[r.2.1]? = some r2 ∧ Cond.classLink (cn 1) r.1 nm ∈ lw_all ∧ (r2.1 = nm ∨ Cond.castable r2.1 nm ∈ gW (mkG X)) := KK1_0_ok X
def KK7_0 : List (Nat × Nat × Nat) := [(7, 0, 0), (7, 1, 0), (7, 2, 0), (7, 3, 0), (7, 4, 0), (7, 5, 0), (7, 6, 0), (7, 7, 0), (7, 8, 0), (7, 9, 0), (7, 10, 0), (7, 11, 0), (7, 12, 0), (7, 13, 0), (7, 14, 0), (7, 15, 0), (7, 16, 0), (7, 17, 0), (7, 18, 0), (7, 19, 0), (7, 20, 0), (7, 21, 0), (7, 22, 0), (7, 23, 0), (7, 24, 0), (7, 25, 0), (7, 26, 0), (20, 13, 0), (187, 22, 0), (267, 16, 0)]
theorem KK7_0_ok (X : XT) : ∀ r ∈ KK7_0, ∃ (r2 : vw_C) (nm : String), (gC (mkG X))[r.2.1]? = some r2 ∧ Cond.classLink (cn 7) r.1 nm ∈ lw_all ∧ (r2.1 = nm ∨ Cond.castable r2.1 nm ∈ gW (mkG X)) := (List.forall_mem_cons.mpr ⟨⟨_, "java/lang/Object", rfl, q336, Or.inr (List.mem_of_getElem? (i := 85) rfl)⟩, (List.forall_mem_cons.mpr ⟨⟨_, "java/lang/Object", rfl, q336, Or.inr (List.mem_of_getElem? (i := 88) rfl)⟩, (List.forall_mem_cons.mpr ⟨⟨_, "java/lang/Object", rfl, q336, Or.inr (List.mem_of_getElem? (i := 90) rfl)⟩, (List.forall_mem_cons.mpr ⟨⟨_, "java/lang/Object", rfl, q336, Or.inr (List.mem_of_getElem? (i := 91) rfl)⟩, (List.forall_mem_cons.mpr ⟨⟨_, "java/lang/Object", rfl, q336, Or.inr (List.mem_of_getElem? (i := 94) rfl)⟩, (List.forall_mem_cons.mpr ⟨⟨_, "java/lang/Object", rfl, q336, Or.inr (List.mem_of_getElem? (i := 97) rfl)⟩, (List.forall_mem_cons.mpr ⟨⟨_, "java/lang/Object", rfl, q336, Or.inr (List.mem_of_getElem? (i := 99) rfl)⟩, (List.forall_mem_cons.mpr ⟨⟨_, "java/lang/Object", rfl, q336, Or.inr (List.mem_of_getElem? (i := 100) rfl)⟩, (List.forall_mem_cons.mpr ⟨⟨_, "java/lang/Object", rfl, q336, Or.inr (List.mem_of_getElem? (i := 102) rfl)⟩, (List.forall_mem_cons.mpr ⟨⟨_, "java/lang/Object", rfl, q336, Or.inr (List.mem_of_getElem? (i := 106) rfl)⟩, (List.forall_mem_cons.mpr ⟨⟨_, "java/lang/Object", rfl, q336, Or.inr (List.mem_of_getElem? (i := 114) rfl)⟩, (List.forall_mem_cons.mpr ⟨⟨_, "java/lang/Object", rfl, q336, Or.inr (List.mem_of_getElem? (i := 115) rfl)⟩, (List.forall_mem_cons.mpr ⟨⟨_, "java/lang/Object", rfl, q336, Or.inr (List.mem_of_getElem? (i := 86) rfl)⟩, (List.forall_mem_cons.mpr ⟨⟨_, "java/lang/Object", rfl, q336, Or.inr (List.mem_of_getElem? (i := 87) rfl)⟩, (List.forall_mem_cons.mpr ⟨⟨_, "java/lang/Object", rfl, q336, Or.inr (List.mem_of_getElem? (i := 96) rfl)⟩, (List.forall_mem_cons.mpr ⟨⟨_, "java/lang/Object", rfl, q336, Or.inr (List.mem_of_getElem? (i := 89) rfl)⟩, (List.forall_mem_cons.mpr ⟨⟨_, "java/lang/Object", rfl, q336, Or.inr (List.mem_of_getElem? (i := 92) rfl)⟩, (List.forall_mem_cons.mpr ⟨⟨_, "java/lang/Object", rfl, q336, Or.inr (List.mem_of_getElem? (i := 107) rfl)⟩, (List.forall_mem_cons.mpr ⟨⟨_, "java/lang/Object", rfl, q336, Or.inr (List.mem_of_getElem? (i := 109) rfl)⟩, (List.forall_mem_cons.mpr ⟨⟨_, "java/lang/Object", rfl, q336, Or.inr (List.mem_of_getElem? (i := 112) rfl)⟩, (List.forall_mem_cons.mpr ⟨⟨_, "java/lang/Object", rfl, q336, Or.inr (List.mem_of_getElem? (i := 108) rfl)⟩, (List.forall_mem_cons.mpr ⟨⟨_, "java/lang/Object", rfl, q336, Or.inr (List.mem_of_getElem? (i := 95) rfl)⟩, (List.forall_mem_cons.mpr ⟨⟨_, "java/lang/Object", rfl, q336, Or.inr (List.mem_of_getElem? (i := 101) rfl)⟩, (List.forall_mem_cons.mpr ⟨⟨_, "java/lang/Object", rfl, q336, Or.inr (List.mem_of_getElem? (i := 103) rfl)⟩, (List.forall_mem_cons.mpr ⟨⟨_, "java/lang/Object", rfl, q336, Or.inr (List.mem_of_getElem? (i := 93) rfl)⟩, (List.forall_mem_cons.mpr ⟨⟨_, "java/lang/Object", rfl, q336, Or.inr (List.mem_of_getElem? (i := 104) rfl)⟩, (List.forall_mem_cons.mpr ⟨⟨_, "java/lang/Object", rfl, q336, Or.inr (List.mem_of_getElem? (i := 113) rfl)⟩, (List.forall_mem_cons.mpr ⟨⟨_, "java/lang/StringBuilder", rfl, q567, Or.inl rfl⟩, (List.forall_mem_cons.mpr ⟨⟨_, "java/lang/IndexOutOfBoundsException", rfl, q515, Or.inl rfl⟩, (List.forall_mem_cons.mpr ⟨⟨_, "java/util/ArrayList$Itr", rfl, q473, Or.inl rfl⟩, (fun _ h => nomatch h)⟩)⟩)⟩)⟩)⟩)⟩)⟩)⟩)⟩)⟩)⟩)⟩)⟩)⟩)⟩)⟩)⟩)⟩)⟩)⟩)⟩)⟩)⟩)⟩)⟩)⟩)⟩)⟩)⟩)⟩)
def KK7 : List (Nat × Nat × Nat) := KK7_0
theorem KK7_ok (X : XT) : ∀ r ∈ KK7, ∃ (r2 : vw_C) (nm : String), (gC (mkG X))[r.2.1]? = some r2 ∧ Cond.classLink (cn 7) r.1 nm ∈ lw_all ∧ (r2.1 = nm ∨ Cond.castable r2.1 nm ∈ gW (mkG X)) := KK7_0_ok X
def KK12_0 : List (Nat × Nat × Nat) := [(34, 24, 0)]
theorem KK12_0_ok (X : XT) : ∀ r ∈ KK12_0, ∃ (r2 : vw_C) (nm : String), (gC (mkG X))[r.2.1]? = some r2 ∧ Cond.classLink (cn 12) r.1 nm ∈ lw_all ∧ (r2.1 = nm ∨ Cond.castable r2.1 nm ∈ gW (mkG X)) := (List.forall_mem_cons.mpr ⟨⟨_, "java/util/NoSuchElementException", rfl, q1074, Or.inl rfl⟩, (fun _ h => nomatch h)⟩)
def KK12 : List (Nat × Nat × Nat) := KK12_0
theorem KK12_ok (X : XT) : ∀ r ∈ KK12, ∃ (r2 : vw_C) (nm : String), (gC (mkG X))[r.2.1]? = some r2 ∧ Cond.classLink (cn 12) r.1 nm ∈ lw_all ∧ (r2.1 = nm ∨ Cond.castable r2.1 nm ∈ gW (mkG X)) := KK12_0_ok X
def KK10_0 : List (Nat × Nat × Nat) := [(2, 0, 0), (2, 1, 0), (2, 2, 0), (2, 3, 0), (2, 4, 0), (2, 5, 0), (2, 6, 0), (2, 7, 0), (2, 8, 0), (2, 9, 0), (2, 10, 0), (2, 11, 0), (2, 12, 0), (2, 13, 0), (2, 14, 0), (2, 15, 0), (2, 16, 0), (2, 17, 0), (2, 18, 0), (2, 19, 0), (2, 20, 0), (2, 21, 0), (2, 22, 0), (2, 23, 0), (2, 24, 0), (2, 25, 0), (2, 26, 0), (43, 21, 0), (45, 13, 0)]
theorem KK10_0_ok (X : XT) : ∀ r ∈ KK10_0, ∃ (r2 : vw_C) (nm : String), (gC (mkG X))[r.2.1]? = some r2 ∧ Cond.classLink (cn 10) r.1 nm ∈ lw_all ∧ (r2.1 = nm ∨ Cond.castable r2.1 nm ∈ gW (mkG X)) := (List.forall_mem_cons.mpr ⟨⟨_, "java/lang/Object", rfl, q328, Or.inr (List.mem_of_getElem? (i := 85) rfl)⟩, (List.forall_mem_cons.mpr ⟨⟨_, "java/lang/Object", rfl, q328, Or.inr (List.mem_of_getElem? (i := 88) rfl)⟩, (List.forall_mem_cons.mpr ⟨⟨_, "java/lang/Object", rfl, q328, Or.inr (List.mem_of_getElem? (i := 90) rfl)⟩, (List.forall_mem_cons.mpr ⟨⟨_, "java/lang/Object", rfl, q328, Or.inr (List.mem_of_getElem? (i := 91) rfl)⟩, (List.forall_mem_cons.mpr ⟨⟨_, "java/lang/Object", rfl, q328, Or.inr (List.mem_of_getElem? (i := 94) rfl)⟩, (List.forall_mem_cons.mpr ⟨⟨_, "java/lang/Object", rfl, q328, Or.inr (List.mem_of_getElem? (i := 97) rfl)⟩, (List.forall_mem_cons.mpr ⟨⟨_, "java/lang/Object", rfl, q328, Or.inr (List.mem_of_getElem? (i := 99) rfl)⟩, (List.forall_mem_cons.mpr ⟨⟨_, "java/lang/Object", rfl, q328, Or.inr (List.mem_of_getElem? (i := 100) rfl)⟩, (List.forall_mem_cons.mpr ⟨⟨_, "java/lang/Object", rfl, q328, Or.inr (List.mem_of_getElem? (i := 102) rfl)⟩, (List.forall_mem_cons.mpr ⟨⟨_, "java/lang/Object", rfl, q328, Or.inr (List.mem_of_getElem? (i := 106) rfl)⟩, (List.forall_mem_cons.mpr ⟨⟨_, "java/lang/Object", rfl, q328, Or.inr (List.mem_of_getElem? (i := 114) rfl)⟩, (List.forall_mem_cons.mpr ⟨⟨_, "java/lang/Object", rfl, q328, Or.inr (List.mem_of_getElem? (i := 115) rfl)⟩, (List.forall_mem_cons.mpr ⟨⟨_, "java/lang/Object", rfl, q328, Or.inr (List.mem_of_getElem? (i := 86) rfl)⟩, (List.forall_mem_cons.mpr ⟨⟨_, "java/lang/Object", rfl, q328, Or.inr (List.mem_of_getElem? (i := 87) rfl)⟩, (List.forall_mem_cons.mpr ⟨⟨_, "java/lang/Object", rfl, q328, Or.inr (List.mem_of_getElem? (i := 96) rfl)⟩, (List.forall_mem_cons.mpr ⟨⟨_, "java/lang/Object", rfl, q328, Or.inr (List.mem_of_getElem? (i := 89) rfl)⟩, (List.forall_mem_cons.mpr ⟨⟨_, "java/lang/Object", rfl, q328, Or.inr (List.mem_of_getElem? (i := 92) rfl)⟩, (List.forall_mem_cons.mpr ⟨⟨_, "java/lang/Object", rfl, q328, Or.inr (List.mem_of_getElem? (i := 107) rfl)⟩, (List.forall_mem_cons.mpr ⟨⟨_, "java/lang/Object", rfl, q328, Or.inr (List.mem_of_getElem? (i := 109) rfl)⟩, (List.forall_mem_cons.mpr ⟨⟨_, "java/lang/Object", rfl, q328, Or.inr (List.mem_of_getElem? (i := 112) rfl)⟩, (List.forall_mem_cons.mpr ⟨⟨_, "java/lang/Object", rfl, q328, Or.inr (List.mem_of_getElem? (i := 108) rfl)⟩, (List.forall_mem_cons.mpr ⟨⟨_, "java/lang/Object", rfl, q328, Or.inr (List.mem_of_getElem? (i := 95) rfl)⟩, (List.forall_mem_cons.mpr ⟨⟨_, "java/lang/Object", rfl, q328, Or.inr (List.mem_of_getElem? (i := 101) rfl)⟩, (List.forall_mem_cons.mpr ⟨⟨_, "java/lang/Object", rfl, q328, Or.inr (List.mem_of_getElem? (i := 103) rfl)⟩, (List.forall_mem_cons.mpr ⟨⟨_, "java/lang/Object", rfl, q328, Or.inr (List.mem_of_getElem? (i := 93) rfl)⟩, (List.forall_mem_cons.mpr ⟨⟨_, "java/lang/Object", rfl, q328, Or.inr (List.mem_of_getElem? (i := 104) rfl)⟩, (List.forall_mem_cons.mpr ⟨⟨_, "java/lang/Object", rfl, q328, Or.inr (List.mem_of_getElem? (i := 113) rfl)⟩, (List.forall_mem_cons.mpr ⟨⟨_, "java/lang/IllegalArgumentException", rfl, q737, Or.inl rfl⟩, (List.forall_mem_cons.mpr ⟨⟨_, "java/lang/StringBuilder", rfl, q746, Or.inl rfl⟩, (fun _ h => nomatch h)⟩)⟩)⟩)⟩)⟩)⟩)⟩)⟩)⟩)⟩)⟩)⟩)⟩)⟩)⟩)⟩)⟩)⟩)⟩)⟩)⟩)⟩)⟩)⟩)⟩)⟩)⟩)⟩)⟩)
def KK10 : List (Nat × Nat × Nat) := KK10_0
theorem KK10_ok (X : XT) : ∀ r ∈ KK10, ∃ (r2 : vw_C) (nm : String), (gC (mkG X))[r.2.1]? = some r2 ∧ Cond.classLink (cn 10) r.1 nm ∈ lw_all ∧ (r2.1 = nm ∨ Cond.castable r2.1 nm ∈ gW (mkG X)) := KK10_0_ok X
def KK32_0 : List (Nat × Nat × Nat) := [(22, 18, 0), (68, 0, 0), (68, 1, 0), (68, 2, 0), (68, 3, 0), (68, 4, 0), (68, 5, 0), (68, 6, 0), (68, 7, 0), (68, 8, 0), (68, 9, 0), (68, 10, 0), (68, 11, 0), (68, 12, 0), (68, 13, 0), (68, 14, 0), (68, 15, 0), (68, 16, 0), (68, 17, 0), (68, 18, 0), (68, 19, 0), (68, 20, 0), (68, 21, 0), (68, 22, 0), (68, 23, 0), (68, 24, 0), (68, 25, 0), (68, 26, 0), (97, 13, 0), (119, 22, 0)]
theorem KK32_0_ok (X : XT) : ∀ r ∈ KK32_0, ∃ (r2 : vw_C) (nm : String), (gC (mkG X))[r.2.1]? = some r2 ∧ Cond.classLink (cn 32) r.1 nm ∈ lw_all ∧ (r2.1 = nm ∨ Cond.castable r2.1 nm ∈ gW (mkG X)) := (List.forall_mem_cons.mpr ⟨⟨_, "java/util/LinkedList$Node", rfl, q347, Or.inl rfl⟩, (List.forall_mem_cons.mpr ⟨⟨_, "java/lang/Object", rfl, q1195, Or.inr (List.mem_of_getElem? (i := 85) rfl)⟩, (List.forall_mem_cons.mpr ⟨⟨_, "java/lang/Object", rfl, q1195, Or.inr (List.mem_of_getElem? (i := 88) rfl)⟩, (List.forall_mem_cons.mpr ⟨⟨_, "java/lang/Object", rfl, q1195, Or.inr (List.mem_of_getElem? (i := 90) rfl)⟩, (List.forall_mem_cons.mpr ⟨⟨_, "java/lang/Object", rfl, q1195, Or.inr (List.mem_of_getElem? (i := 91) rfl)⟩, (List.forall_mem_cons.mpr ⟨⟨_, "java/lang/Object", rfl, q1195, Or.inr (List.mem_of_getElem? (i := 94) rfl)⟩, (List.forall_mem_cons.mpr ⟨⟨_, "java/lang/Object", rfl, q1195, Or.inr (List.mem_of_getElem? (i := 97) rfl)⟩, (List.forall_mem_cons.mpr ⟨⟨_, "java/lang/Object", rfl, q1195, Or.inr (List.mem_of_getElem? (i := 99) rfl)⟩, (List.forall_mem_cons.mpr ⟨⟨_, "java/lang/Object", rfl, q1195, Or.inr (List.mem_of_getElem? (i := 100) rfl)⟩, (List.forall_mem_cons.mpr ⟨⟨_, "java/lang/Object", rfl, q1195, Or.inr (List.mem_of_getElem? (i := 102) rfl)⟩, (List.forall_mem_cons.mpr ⟨⟨_, "java/lang/Object", rfl, q1195, Or.inr (List.mem_of_getElem? (i := 106) rfl)⟩, (List.forall_mem_cons.mpr ⟨⟨_, "java/lang/Object", rfl, q1195, Or.inr (List.mem_of_getElem? (i := 114) rfl)⟩, (List.forall_mem_cons.mpr ⟨⟨_, "java/lang/Object", rfl, q1195, Or.inr (List.mem_of_getElem? (i := 115) rfl)⟩, (List.forall_mem_cons.mpr ⟨⟨_, "java/lang/Object", rfl, q1195, Or.inr (List.mem_of_getElem? (i := 86) rfl)⟩, (List.forall_mem_cons.mpr ⟨⟨_, "java/lang/Object", rfl, q1195, Or.inr (List.mem_of_getElem? (i := 87) rfl)⟩, (List.forall_mem_cons.mpr ⟨⟨_, "java/lang/Object", rfl, q1195, Or.inr (List.mem_of_getElem? (i := 96) rfl)⟩, (List.forall_mem_cons.mpr ⟨⟨_, "java/lang/Object", rfl, q1195, Or.inr (List.mem_of_getElem? (i := 89) rfl)⟩, (List.forall_mem_cons.mpr ⟨⟨_, "java/lang/Object", rfl, q1195, Or.inr (List.mem_of_getElem? (i := 92) rfl)⟩, (List.forall_mem_cons.mpr ⟨⟨_, "java/lang/Object", rfl, q1195, Or.inr (List.mem_of_getElem? (i := 107) rfl)⟩, (List.forall_mem_cons.mpr ⟨⟨_, "java/lang/Object", rfl, q1195, Or.inr (List.mem_of_getElem? (i := 109) rfl)⟩, (List.forall_mem_cons.mpr ⟨⟨_, "java/lang/Object", rfl, q1195, Or.inr (List.mem_of_getElem? (i := 112) rfl)⟩, (List.forall_mem_cons.mpr ⟨⟨_, "java/lang/Object", rfl, q1195, Or.inr (List.mem_of_getElem? (i := 108) rfl)⟩, (List.forall_mem_cons.mpr ⟨⟨_, "java/lang/Object", rfl, q1195, Or.inr (List.mem_of_getElem? (i := 95) rfl)⟩, (List.forall_mem_cons.mpr ⟨⟨_, "java/lang/Object", rfl, q1195, Or.inr (List.mem_of_getElem? (i := 101) rfl)⟩, (List.forall_mem_cons.mpr ⟨⟨_, "java/lang/Object", rfl, q1195, Or.inr (List.mem_of_getElem? (i := 103) rfl)⟩, (List.forall_mem_cons.mpr ⟨⟨_, "java/lang/Object", rfl, q1195, Or.inr (List.mem_of_getElem? (i := 93) rfl)⟩, (List.forall_mem_cons.mpr ⟨⟨_, "java/lang/Object", rfl, q1195, Or.inr (List.mem_of_getElem? (i := 104) rfl)⟩, (List.forall_mem_cons.mpr ⟨⟨_, "java/lang/Object", rfl, q1195, Or.inr (List.mem_of_getElem? (i := 113) rfl)⟩, (List.forall_mem_cons.mpr ⟨⟨_, "java/lang/StringBuilder", rfl, q840, Or.inl rfl⟩, (List.forall_mem_cons.mpr ⟨⟨_, "java/lang/IndexOutOfBoundsException", rfl, q835, Or.inl rfl⟩, (fun _ h => nomatch h)⟩)⟩)⟩)⟩)⟩)⟩)⟩)⟩)⟩)⟩)⟩)⟩)⟩)⟩)⟩)⟩)⟩)⟩)⟩)⟩)⟩)⟩)⟩)⟩)⟩)⟩)⟩)⟩)⟩)⟩)
def KK32_1 : List (Nat × Nat × Nat) := [(150, 19, 0)]
theorem KK32_1_ok (X : XT) : ∀ r ∈ KK32_1, ∃ (r2 : vw_C) (nm : String), (gC (mkG X))[r.2.1]? = some r2 ∧ Cond.classLink (cn 32) r.1 nm ∈ lw_all ∧ (r2.1 = nm ∨ Cond.castable r2.1 nm ∈ gW (mkG X)) := (List.forall_mem_cons.mpr ⟨⟨_, "java/util/LinkedList$ListItr", rfl, q848, Or.inl rfl⟩, (fun _ h => nomatch h)⟩)
def KK32 : List (Nat × Nat × Nat) := KK32_0 ++ KK32_1
def KK32a : List (Nat × Nat × Nat) := KK32_0 ++ (KK32_1)
theorem KK32_ok (X : XT) : ∀ r ∈ KK32a, ∃ (r2 : vw_C) (nm : String), (gC (mkG X))[r.2.1]? = some r2 ∧ Cond.classLink (cn 32) r.1 nm ∈ lw_all ∧ (r2.1 = nm ∨ Cond.castable r2.1 nm ∈ gW (mkG X)) := List.forall_mem_append.mpr ⟨KK32_0_ok X, KK32_1_ok X⟩
def KK24_0 : List (Nat × Nat × Nat) := [(43, 24, 0)]
theorem KK24_0_ok (X : XT) : ∀ r ∈ KK24_0, ∃ (r2 : vw_C) (nm : String), (gC (mkG X))[r.2.1]? = some r2 ∧ Cond.classLink (cn 24) r.1 nm ∈ lw_all ∧ (r2.1 = nm ∨ Cond.castable r2.1 nm ∈ gW (mkG X)) := (List.forall_mem_cons.mpr ⟨⟨_, "java/util/NoSuchElementException", rfl, q1088, Or.inl rfl⟩, (fun _ h => nomatch h)⟩)
def KK24 : List (Nat × Nat × Nat) := KK24_0
theorem KK24_ok (X : XT) : ∀ r ∈ KK24, ∃ (r2 : vw_C) (nm : String), (gC (mkG X))[r.2.1]? = some r2 ∧ Cond.classLink (cn 24) r.1 nm ∈ lw_all ∧ (r2.1 = nm ∨ Cond.castable r2.1 nm ∈ gW (mkG X)) := KK24_0_ok X
def KK8_0 : List (Nat × Nat × Nat) := [(87, 21, 0), (89, 13, 0)]
theorem KK8_0_ok (X : XT) : ∀ r ∈ KK8_0, ∃ (r2 : vw_C) (nm : String), (gC (mkG X))[r.2.1]? = some r2 ∧ Cond.classLink (cn 8) r.1 nm ∈ lw_all ∧ (r2.1 = nm ∨ Cond.castable r2.1 nm ∈ gW (mkG X)) := (List.forall_mem_cons.mpr ⟨⟨_, "java/lang/IllegalArgumentException", rfl, q1300, Or.inl rfl⟩, (List.forall_mem_cons.mpr ⟨⟨_, "java/lang/StringBuilder", rfl, q1301, Or.inl rfl⟩, (fun _ h => nomatch h)⟩)⟩)
def KK8 : List (Nat × Nat × Nat) := KK8_0
theorem KK8_ok (X : XT) : ∀ r ∈ KK8, ∃ (r2 : vw_C) (nm : String), (gC (mkG X))[r.2.1]? = some r2 ∧ Cond.classLink (cn 8) r.1 nm ∈ lw_all ∧ (r2.1 = nm ∨ Cond.castable r2.1 nm ∈ gW (mkG X)) := KK8_0_ok X
def KKT : Nat → List (Nat × Nat × Nat)
  | 39 => KK39
  | 48 => KK48
  | 44 => KK44
  | 49 => KK49
  | 46 => KK46
  | 40 => KK40
  | 43 => KK43
  | 47 => KK47
  | 38 => KK38
  | 30 => KK30
  | 20 => KK20
  | 4 => KK4
  | 3 => KK3
  | 34 => KK34
  | 18 => KK18
  | 5 => KK5
  | 13 => KK13
  | 22 => KK22
  | 1 => KK1
  | 7 => KK7
  | 12 => KK12
  | 10 => KK10
  | 32 => KK32a
  | 24 => KK24
  | 8 => KK8
  | _ => []
def KK (o i c : Nat) : Option (Nat) := lk (KKT o) i c
theorem KK_ok (X : XT) (o : Nat) : ∀ r ∈ KKT o, ∃ (r2 : vw_C) (nm : String), (gC (mkG X))[r.2.1]? = some r2 ∧ Cond.classLink (cn o) r.1 nm ∈ lw_all ∧ (r2.1 = nm ∨ Cond.castable r2.1 nm ∈ gW (mkG X)) := by
  unfold KKT
  split
  · exact KK39_ok X
  · exact KK48_ok X
  · exact KK44_ok X
  · exact KK49_ok X
  · exact KK46_ok X
  · exact KK40_ok X
  · exact KK43_ok X
  · exact KK47_ok X
  · exact KK38_ok X
  · exact KK30_ok X
  · exact KK20_ok X
  · exact KK4_ok X
  · exact KK3_ok X
  · exact KK34_ok X
  · exact KK18_ok X
  · exact KK5_ok X
  · exact KK13_ok X
  · exact KK22_ok X
  · exact KK1_ok X
  · exact KK7_ok X
  · exact KK12_ok X
  · exact KK10_ok X
  · exact KK32_ok X
  · exact KK24_ok X
  · exact KK8_ok X
  · exact fun _ h => nomatch h
theorem kk_39_1_21 : KK 39 1 21 = some (0) := rfl
theorem kk_39_7_22 : KK 39 7 22 = some (0) := rfl
theorem kk_39_10_23 : KK 39 10 23 = some (0) := rfl
theorem kk_39_13_24 : KK 39 13 24 = some (0) := rfl
theorem kk_39_16_6 : KK 39 16 6 = some (0) := rfl
theorem kk_39_26_12 : KK 39 26 12 = some (0) := rfl
theorem kk_39_33_13 : KK 39 33 13 = some (0) := rfl
theorem kk_39_40_1 : KK 39 40 1 = some (0) := rfl
theorem kk_39_80_25 : KK 39 80 25 = some (0) := rfl
theorem kk_39_87_5 : KK 39 87 5 = some (0) := rfl
theorem kk_39_112_4 : KK 39 112 4 = some (0) := rfl
theorem kk_39_167_7 : KK 39 167 7 = some (0) := rfl
theorem kk_39_205_8 : KK 39 205 8 = some (0) := rfl
theorem kk_39_214_2 : KK 39 214 2 = some (0) := rfl
theorem kk_39_272_9 : KK 39 272 9 = some (0) := rfl
theorem kk_39_284_17 : KK 39 284 17 = some (0) := rfl
theorem kk_39_289_20 : KK 39 289 20 = some (0) := rfl
theorem kk_39_372_26 : KK 39 372 26 = some (0) := rfl
theorem kk_39_378_10 : KK 39 378 10 = some (0) := rfl
theorem kk_39_390_11 : KK 39 390 11 = some (0) := rfl
theorem kk_48_44_2 : KK 48 44 2 = some (0) := rfl
theorem kk_44_19_7 : KK 44 19 7 = some (0) := rfl
theorem kk_44_77_4 : KK 44 77 4 = some (0) := rfl
theorem kk_49_24_13 : KK 49 24 13 = some (0) := rfl
theorem kk_49_41_11 : KK 49 41 11 = some (0) := rfl
theorem kk_49_98_5 : KK 49 98 5 = some (0) := rfl
theorem kk_49_103_17 : KK 49 103 17 = some (0) := rfl
theorem kk_46_24_13 : KK 46 24 13 = some (0) := rfl
theorem kk_40_9_15 : KK 40 9 15 = some (0) := rfl
theorem kk_40_25_2 : KK 40 25 2 = some (0) := rfl
theorem kk_40_51_4 : KK 40 51 4 = some (0) := rfl
theorem kk_43_15_15 : KK 43 15 15 = some (0) := rfl
theorem kk_43_77_8 : KK 43 77 8 = some (0) := rfl
theorem kk_43_96_7 : KK 43 96 7 = some (0) := rfl
theorem kk_43_135_2 : KK 43 135 2 = some (0) := rfl
theorem kk_47_10_8 : KK 47 10 8 = some (0) := rfl
theorem kk_47_46_7 : KK 47 46 7 = some (0) := rfl
theorem kk_38_8_0 : KK 38 8 0 = some (0) := rfl
theorem kk_38_13_21 : KK 38 13 21 = some (0) := rfl
theorem kk_38_15_25 : KK 38 15 25 = some (0) := rfl
theorem kk_38_21_22 : KK 38 21 22 = some (0) := rfl
theorem kk_38_59_24 : KK 38 59 24 = some (0) := rfl
theorem kk_38_87_26 : KK 38 87 26 = some (0) := rfl
theorem kk_38_97_23 : KK 38 97 23 = some (0) := rfl
theorem kk_38_117_3 : KK 38 117 3 = some (0) := rfl
theorem kk_30_10_13 : KK 30 10 13 = some (0) := rfl
theorem kk_20_1_20 : KK 20 1 20 = some (0) := rfl
theorem kk_4_10_14 : KK 4 10 14 = some (0) := rfl
theorem kk_3_18_14 : KK 3 18 14 = some (0) := rfl
theorem kk_34_10_13 : KK 34 10 13 = some (0) := rfl
theorem kk_18_1_14 : KK 18 1 14 = some (0) := rfl
theorem kk_5_3_14 : KK 5 3 14 = some (0) := rfl
theorem kk_13_44_13 : KK 13 44 13 = some (0) := rfl
theorem kk_22_41_24 : KK 22 41 24 = some (0) := rfl
theorem kk_1_33_23 : KK 1 33 23 = some (0) := rfl
theorem kk_1_47_0 : KK 1 47 0 = some (0) := rfl
theorem kk_1_47_1 : KK 1 47 1 = some (0) := rfl
theorem kk_1_47_2 : KK 1 47 2 = some (0) := rfl
theorem kk_1_47_3 : KK 1 47 3 = some (0) := rfl
theorem kk_1_47_4 : KK 1 47 4 = some (0) := rfl
theorem kk_1_47_5 : KK 1 47 5 = some (0) := rfl
theorem kk_1_47_6 : KK 1 47 6 = some (0) := rfl
theorem kk_1_47_7 : KK 1 47 7 = some (0) := rfl
theorem kk_1_47_8 : KK 1 47 8 = some (0) := rfl
theorem kk_1_47_9 : KK 1 47 9 = some (0) := rfl
theorem kk_1_47_10 : KK 1 47 10 = some (0) := rfl
theorem kk_1_47_11 : KK 1 47 11 = some (0) := rfl
theorem kk_1_47_12 : KK 1 47 12 = some (0) := rfl
theorem kk_1_47_13 : KK 1 47 13 = some (0) := rfl
theorem kk_1_47_14 : KK 1 47 14 = some (0) := rfl
theorem kk_1_47_15 : KK 1 47 15 = some (0) := rfl
theorem kk_1_47_16 : KK 1 47 16 = some (0) := rfl
theorem kk_1_47_17 : KK 1 47 17 = some (0) := rfl
theorem kk_1_47_18 : KK 1 47 18 = some (0) := rfl
theorem kk_1_47_19 : KK 1 47 19 = some (0) := rfl
theorem kk_1_47_20 : KK 1 47 20 = some (0) := rfl
theorem kk_1_47_21 : KK 1 47 21 = some (0) := rfl
theorem kk_1_47_22 : KK 1 47 22 = some (0) := rfl
theorem kk_1_47_23 : KK 1 47 23 = some (0) := rfl
theorem kk_1_47_24 : KK 1 47 24 = some (0) := rfl
theorem kk_1_47_25 : KK 1 47 25 = some (0) := rfl
theorem kk_1_47_26 : KK 1 47 26 = some (0) := rfl
theorem kk_1_97_24 : KK 1 97 24 = some (0) := rfl
theorem kk_7_7_0 : KK 7 7 0 = some (0) := rfl
theorem kk_7_7_1 : KK 7 7 1 = some (0) := rfl
theorem kk_7_7_2 : KK 7 7 2 = some (0) := rfl
theorem kk_7_7_3 : KK 7 7 3 = some (0) := rfl
theorem kk_7_7_4 : KK 7 7 4 = some (0) := rfl
theorem kk_7_7_5 : KK 7 7 5 = some (0) := rfl
theorem kk_7_7_6 : KK 7 7 6 = some (0) := rfl
theorem kk_7_7_7 : KK 7 7 7 = some (0) := rfl
theorem kk_7_7_8 : KK 7 7 8 = some (0) := rfl
theorem kk_7_7_9 : KK 7 7 9 = some (0) := rfl
theorem kk_7_7_10 : KK 7 7 10 = some (0) := rfl
theorem kk_7_7_11 : KK 7 7 11 = some (0) := rfl
theorem kk_7_7_12 : KK 7 7 12 = some (0) := rfl
theorem kk_7_7_13 : KK 7 7 13 = some (0) := rfl
theorem kk_7_7_14 : KK 7 7 14 = some (0) := rfl
theorem kk_7_7_15 : KK 7 7 15 = some (0) := rfl
theorem kk_7_7_16 : KK 7 7 16 = some (0) := rfl
theorem kk_7_7_17 : KK 7 7 17 = some (0) := rfl
theorem kk_7_7_18 : KK 7 7 18 = some (0) := rfl
theorem kk_7_7_19 : KK 7 7 19 = some (0) := rfl
theorem kk_7_7_20 : KK 7 7 20 = some (0) := rfl
theorem kk_7_7_21 : KK 7 7 21 = some (0) := rfl
theorem kk_7_7_22 : KK 7 7 22 = some (0) := rfl
theorem kk_7_7_23 : KK 7 7 23 = some (0) := rfl
theorem kk_7_7_24 : KK 7 7 24 = some (0) := rfl
theorem kk_7_7_25 : KK 7 7 25 = some (0) := rfl
theorem kk_7_7_26 : KK 7 7 26 = some (0) := rfl
theorem kk_7_20_13 : KK 7 20 13 = some (0) := rfl
theorem kk_7_187_22 : KK 7 187 22 = some (0) := rfl
theorem kk_7_267_16 : KK 7 267 16 = some (0) := rfl
theorem kk_12_34_24 : KK 12 34 24 = some (0) := rfl
theorem kk_10_2_0 : KK 10 2 0 = some (0) := rfl
theorem kk_10_2_1 : KK 10 2 1 = some (0) := rfl
theorem kk_10_2_2 : KK 10 2 2 = some (0) := rfl
theorem kk_10_2_3 : KK 10 2 3 = some (0) := rfl
theorem kk_10_2_4 : KK 10 2 4 = some (0) := rfl
theorem kk_10_2_5 : KK 10 2 5 = some (0) := rfl
theorem kk_10_2_6 : KK 10 2 6 = some (0) := rfl
theorem kk_10_2_7 : KK 10 2 7 = some (0) := rfl
theorem kk_10_2_8 : KK 10 2 8 = some (0) := rfl
theorem kk_10_2_9 : KK 10 2 9 = some (0) := rfl
theorem kk_10_2_10 : KK 10 2 10 = some (0) := rfl
theorem kk_10_2_11 : KK 10 2 11 = some (0) := rfl
theorem kk_10_2_12 : KK 10 2 12 = some (0) := rfl
theorem kk_10_2_13 : KK 10 2 13 = some (0) := rfl
theorem kk_10_2_14 : KK 10 2 14 = some (0) := rfl
theorem kk_10_2_15 : KK 10 2 15 = some (0) := rfl
theorem kk_10_2_16 : KK 10 2 16 = some (0) := rfl
theorem kk_10_2_17 : KK 10 2 17 = some (0) := rfl
theorem kk_10_2_18 : KK 10 2 18 = some (0) := rfl
theorem kk_10_2_19 : KK 10 2 19 = some (0) := rfl
theorem kk_10_2_20 : KK 10 2 20 = some (0) := rfl
theorem kk_10_2_21 : KK 10 2 21 = some (0) := rfl
theorem kk_10_2_22 : KK 10 2 22 = some (0) := rfl
theorem kk_10_2_23 : KK 10 2 23 = some (0) := rfl
theorem kk_10_2_24 : KK 10 2 24 = some (0) := rfl
theorem kk_10_2_25 : KK 10 2 25 = some (0) := rfl
theorem kk_10_2_26 : KK 10 2 26 = some (0) := rfl
theorem kk_10_43_21 : KK 10 43 21 = some (0) := rfl
theorem kk_10_45_13 : KK 10 45 13 = some (0) := rfl
theorem kk_32_22_18 : KK 32 22 18 = some (0) := rfl
theorem kk_32_68_0 : KK 32 68 0 = some (0) := rfl
theorem kk_32_68_1 : KK 32 68 1 = some (0) := rfl
theorem kk_32_68_2 : KK 32 68 2 = some (0) := rfl
theorem kk_32_68_3 : KK 32 68 3 = some (0) := rfl
theorem kk_32_68_4 : KK 32 68 4 = some (0) := rfl
theorem kk_32_68_5 : KK 32 68 5 = some (0) := rfl
theorem kk_32_68_6 : KK 32 68 6 = some (0) := rfl
theorem kk_32_68_7 : KK 32 68 7 = some (0) := rfl
theorem kk_32_68_8 : KK 32 68 8 = some (0) := rfl
theorem kk_32_68_9 : KK 32 68 9 = some (0) := rfl
theorem kk_32_68_10 : KK 32 68 10 = some (0) := rfl
theorem kk_32_68_11 : KK 32 68 11 = some (0) := rfl
theorem kk_32_68_12 : KK 32 68 12 = some (0) := rfl
theorem kk_32_68_13 : KK 32 68 13 = some (0) := rfl
theorem kk_32_68_14 : KK 32 68 14 = some (0) := rfl
theorem kk_32_68_15 : KK 32 68 15 = some (0) := rfl
theorem kk_32_68_16 : KK 32 68 16 = some (0) := rfl
theorem kk_32_68_17 : KK 32 68 17 = some (0) := rfl
theorem kk_32_68_18 : KK 32 68 18 = some (0) := rfl
theorem kk_32_68_19 : KK 32 68 19 = some (0) := rfl
theorem kk_32_68_20 : KK 32 68 20 = some (0) := rfl
theorem kk_32_68_21 : KK 32 68 21 = some (0) := rfl
theorem kk_32_68_22 : KK 32 68 22 = some (0) := rfl
theorem kk_32_68_23 : KK 32 68 23 = some (0) := rfl
theorem kk_32_68_24 : KK 32 68 24 = some (0) := rfl
theorem kk_32_68_25 : KK 32 68 25 = some (0) := rfl
theorem kk_32_68_26 : KK 32 68 26 = some (0) := rfl
theorem kk_32_97_13 : KK 32 97 13 = some (0) := rfl
theorem kk_32_119_22 : KK 32 119 22 = some (0) := rfl
theorem kk_32_150_19 : KK 32 150 19 = some (0) := rfl
theorem kk_24_43_24 : KK 24 43 24 = some (0) := rfl
theorem kk_8_87_21 : KK 8 87 21 = some (0) := rfl
theorem kk_8_89_13 : KK 8 89 13 = some (0) := rfl
def KA1 : List (Nat × Nat × Nat) := [(188, 0, 5)]
theorem KA1_ok (X : XT) : ∀ r ∈ KA1, (r.2.2 = 1 ∧ Cond.classLink (cn 1) r.1 "[B" ∈ lw_all) ∨ (r.2.2 = 5 ∧ Cond.classLink (cn 1) r.1 "[Ljava/lang/Object;" ∈ lw_all) := (List.forall_mem_cons.mpr ⟨Or.inr ⟨rfl, q1174⟩, (fun _ h => nomatch h)⟩)
def KA10 : List (Nat × Nat × Nat) := [(110, 0, 5), (311, 0, 1)]
theorem KA10_ok (X : XT) : ∀ r ∈ KA10, (r.2.2 = 1 ∧ Cond.classLink (cn 10) r.1 "[B" ∈ lw_all) ∨ (r.2.2 = 5 ∧ Cond.classLink (cn 10) r.1 "[Ljava/lang/Object;" ∈ lw_all) := (List.forall_mem_cons.mpr ⟨Or.inr ⟨rfl, q327⟩, (List.forall_mem_cons.mpr ⟨Or.inl ⟨rfl, q600⟩, (fun _ h => nomatch h)⟩)⟩)
def KA8 : List (Nat × Nat × Nat) := [(60, 0, 1)]
theorem KA8_ok (X : XT) : ∀ r ∈ KA8, (r.2.2 = 1 ∧ Cond.classLink (cn 8) r.1 "[B" ∈ lw_all) ∨ (r.2.2 = 5 ∧ Cond.classLink (cn 8) r.1 "[Ljava/lang/Object;" ∈ lw_all) := (List.forall_mem_cons.mpr ⟨Or.inl ⟨rfl, q1265⟩, (fun _ h => nomatch h)⟩)
def KAT : Nat → List (Nat × Nat × Nat)
  | 1 => KA1
  | 10 => KA10
  | 8 => KA8
  | _ => []
def KA (o i : Nat) : Option (Nat) := lk (KAT o) i 0
theorem KA_ok (X : XT) (o : Nat) : ∀ r ∈ KAT o, (r.2.2 = 1 ∧ Cond.classLink (cn o) r.1 "[B" ∈ lw_all) ∨ (r.2.2 = 5 ∧ Cond.classLink (cn o) r.1 "[Ljava/lang/Object;" ∈ lw_all) := by
  unfold KAT
  split
  · exact KA1_ok X
  · exact KA10_ok X
  · exact KA8_ok X
  · exact fun _ h => nomatch h
theorem ka_1_188 : KA 1 188 = some (5) := rfl
theorem ka_10_110 : KA 10 110 = some (5) := rfl
theorem ka_10_311 : KA 10 311 = some (1) := rfl
theorem ka_8_60 : KA 8 60 = some (1) := rfl
def XK38_0 : List (Nat × Nat × Bool) := [(13, 21, true), (13, 22, false), (13, 23, false), (13, 24, false), (13, 25, false), (13, 26, false), (13, 6, false), (13, 11, false), (15, 21, false), (15, 22, false), (15, 23, false), (15, 24, false), (15, 25, true), (15, 26, false), (15, 6, false), (15, 11, false), (21, 21, false), (21, 22, true), (21, 23, false), (21, 24, false), (21, 25, false), (21, 26, false), (21, 6, false), (21, 11, false), (59, 21, false), (59, 22, false), (59, 23, false), (59, 24, true), (59, 25, false), (59, 26, false)]
theorem XK38_0_ok (X : XT) : ∀ r ∈ XK38_0, ∃ (r2 : vw_C) (nm : String), (gC (mkG X))[r.2.1]? = some r2 ∧ Cond.classLink (cn 38) r.1 nm ∈ lw_all ∧ ((r.2.2 = true ∧ Cond.castable r2.1 nm ∈ gW (mkG X)) ∨ (r.2.2 = false ∧ (r2.1, nm) ∈ gN (mkG X))) := (List.forall_mem_cons.mpr ⟨⟨_, "java/lang/IllegalArgumentException", rfl, q1222, Or.inl ⟨rfl, (List.mem_of_getElem? (i := 64) rfl)⟩⟩, (List.forall_mem_cons.mpr ⟨⟨_, "java/lang/IllegalArgumentException", rfl, q1222, Or.inr ⟨rfl, List.mem_of_getElem? (i := 49) rfl⟩⟩, (List.forall_mem_cons.mpr ⟨⟨_, "java/lang/IllegalArgumentException", rfl, q1222, Or.inr ⟨rfl, List.mem_of_getElem? (i := 40) rfl⟩⟩, (List.forall_mem_cons.mpr ⟨⟨_, "java/lang/IllegalArgumentException", rfl, q1222, Or.inr ⟨rfl, List.mem_of_getElem? (i := 67) rfl⟩⟩, (List.forall_mem_cons.mpr ⟨⟨_, "java/lang/IllegalArgumentException", rfl, q1222, Or.inr ⟨rfl, List.mem_of_getElem? (i := 58) rfl⟩⟩, (List.forall_mem_cons.mpr ⟨⟨_, "java/lang/IllegalArgumentException", rfl, q1222, Or.inr ⟨rfl, List.mem_of_getElem? (i := 21) rfl⟩⟩, (List.forall_mem_cons.mpr ⟨⟨_, "java/lang/IllegalArgumentException", rfl, q1222, Or.inr ⟨rfl, List.mem_of_getElem? (i := 12) rfl⟩⟩, (List.forall_mem_cons.mpr ⟨⟨_, "java/lang/IllegalArgumentException", rfl, q1222, Or.inr ⟨rfl, List.mem_of_getElem? (i := 3) rfl⟩⟩, (List.forall_mem_cons.mpr ⟨⟨_, "java/lang/UnsupportedOperationException", rfl, q1223, Or.inr ⟨rfl, List.mem_of_getElem? (i := 34) rfl⟩⟩, (List.forall_mem_cons.mpr ⟨⟨_, "java/lang/UnsupportedOperationException", rfl, q1223, Or.inr ⟨rfl, List.mem_of_getElem? (i := 52) rfl⟩⟩, (List.forall_mem_cons.mpr ⟨⟨_, "java/lang/UnsupportedOperationException", rfl, q1223, Or.inr ⟨rfl, List.mem_of_getElem? (i := 43) rfl⟩⟩, (List.forall_mem_cons.mpr ⟨⟨_, "java/lang/UnsupportedOperationException", rfl, q1223, Or.inr ⟨rfl, List.mem_of_getElem? (i := 71) rfl⟩⟩, (List.forall_mem_cons.mpr ⟨⟨_, "java/lang/UnsupportedOperationException", rfl, q1223, Or.inl ⟨rfl, (List.mem_of_getElem? (i := 77) rfl)⟩⟩, (List.forall_mem_cons.mpr ⟨⟨_, "java/lang/UnsupportedOperationException", rfl, q1223, Or.inr ⟨rfl, List.mem_of_getElem? (i := 25) rfl⟩⟩, (List.forall_mem_cons.mpr ⟨⟨_, "java/lang/UnsupportedOperationException", rfl, q1223, Or.inr ⟨rfl, List.mem_of_getElem? (i := 16) rfl⟩⟩, (List.forall_mem_cons.mpr ⟨⟨_, "java/lang/UnsupportedOperationException", rfl, q1223, Or.inr ⟨rfl, List.mem_of_getElem? (i := 7) rfl⟩⟩, (List.forall_mem_cons.mpr ⟨⟨_, "java/lang/IndexOutOfBoundsException", rfl, q1694, Or.inr ⟨rfl, List.mem_of_getElem? (i := 32) rfl⟩⟩, (List.forall_mem_cons.mpr ⟨⟨_, "java/lang/IndexOutOfBoundsException", rfl, q1694, Or.inl ⟨rfl, (List.mem_of_getElem? (i := 62) rfl)⟩⟩, (List.forall_mem_cons.mpr ⟨⟨_, "java/lang/IndexOutOfBoundsException", rfl, q1694, Or.inr ⟨rfl, List.mem_of_getElem? (i := 41) rfl⟩⟩, (List.forall_mem_cons.mpr ⟨⟨_, "java/lang/IndexOutOfBoundsException", rfl, q1694, Or.inr ⟨rfl, List.mem_of_getElem? (i := 69) rfl⟩⟩, (List.forall_mem_cons.mpr ⟨⟨_, "java/lang/IndexOutOfBoundsException", rfl, q1694, Or.inr ⟨rfl, List.mem_of_getElem? (i := 60) rfl⟩⟩, (List.forall_mem_cons.mpr ⟨⟨_, "java/lang/IndexOutOfBoundsException", rfl, q1694, Or.inr ⟨rfl, List.mem_of_getElem? (i := 23) rfl⟩⟩, (List.forall_mem_cons.mpr ⟨⟨_, "java/lang/IndexOutOfBoundsException", rfl, q1694, Or.inr ⟨rfl, List.mem_of_getElem? (i := 14) rfl⟩⟩, (List.forall_mem_cons.mpr ⟨⟨_, "java/lang/IndexOutOfBoundsException", rfl, q1694, Or.inr ⟨rfl, List.mem_of_getElem? (i := 5) rfl⟩⟩, (List.forall_mem_cons.mpr ⟨⟨_, "java/util/NoSuchElementException", rfl, q1827, Or.inr ⟨rfl, List.mem_of_getElem? (i := 35) rfl⟩⟩, (List.forall_mem_cons.mpr ⟨⟨_, "java/util/NoSuchElementException", rfl, q1827, Or.inr ⟨rfl, List.mem_of_getElem? (i := 53) rfl⟩⟩, (List.forall_mem_cons.mpr ⟨⟨_, "java/util/NoSuchElementException", rfl, q1827, Or.inr ⟨rfl, List.mem_of_getElem? (i := 44) rfl⟩⟩, (List.forall_mem_cons.mpr ⟨⟨_, "java/util/NoSuchElementException", rfl, q1827, Or.inl ⟨rfl, (List.mem_of_getElem? (i := 70) rfl)⟩⟩, (List.forall_mem_cons.mpr ⟨⟨_, "java/util/NoSuchElementException", rfl, q1827, Or.inr ⟨rfl, List.mem_of_getElem? (i := 62) rfl⟩⟩, (List.forall_mem_cons.mpr ⟨⟨_, "java/util/NoSuchElementException", rfl, q1827, Or.inr ⟨rfl, List.mem_of_getElem? (i := 26) rfl⟩⟩, (fun _ h => nomatch h)⟩)⟩)⟩)⟩)⟩)⟩)⟩)⟩)⟩)⟩)⟩)⟩)⟩)⟩)⟩)⟩)⟩)⟩)⟩)⟩)⟩)⟩)⟩)⟩)⟩)⟩)⟩)⟩)⟩)⟩)
def XK38_1 : List (Nat × Nat × Bool) := [(59, 6, false), (59, 11, false), (87, 21, false), (87, 22, false), (87, 23, false), (87, 24, false), (87, 25, false), (87, 26, true), (87, 6, false), (87, 11, false), (97, 21, false), (97, 22, false), (97, 23, true), (97, 24, false), (97, 25, false), (97, 26, false), (97, 6, false), (97, 11, false)]
theorem XK38_1_ok (X : XT) : ∀ r ∈ XK38_1, ∃ (r2 : vw_C) (nm : String), (gC (mkG X))[r.2.1]? = some r2 ∧ Cond.classLink (cn 38) r.1 nm ∈ lw_all ∧ ((r.2.2 = true ∧ Cond.castable r2.1 nm ∈ gW (mkG X)) ∨ (r.2.2 = false ∧ (r2.1, nm) ∈ gN (mkG X))) := (List.forall_mem_cons.mpr ⟨⟨_, "java/util/NoSuchElementException", rfl, q1827, Or.inr ⟨rfl, List.mem_of_getElem? (i := 17) rfl⟩⟩, (List.forall_mem_cons.mpr ⟨⟨_, "java/util/NoSuchElementException", rfl, q1827, Or.inr ⟨rfl, List.mem_of_getElem? (i := 8) rfl⟩⟩, (List.forall_mem_cons.mpr ⟨⟨_, "java/lang/ArithmeticException", rfl, q2071, Or.inr ⟨rfl, List.mem_of_getElem? (i := 30) rfl⟩⟩, (List.forall_mem_cons.mpr ⟨⟨_, "java/lang/ArithmeticException", rfl, q2071, Or.inr ⟨rfl, List.mem_of_getElem? (i := 48) rfl⟩⟩, (List.forall_mem_cons.mpr ⟨⟨_, "java/lang/ArithmeticException", rfl, q2071, Or.inr ⟨rfl, List.mem_of_getElem? (i := 39) rfl⟩⟩, (List.forall_mem_cons.mpr ⟨⟨_, "java/lang/ArithmeticException", rfl, q2071, Or.inr ⟨rfl, List.mem_of_getElem? (i := 66) rfl⟩⟩, (List.forall_mem_cons.mpr ⟨⟨_, "java/lang/ArithmeticException", rfl, q2071, Or.inr ⟨rfl, List.mem_of_getElem? (i := 57) rfl⟩⟩, (List.forall_mem_cons.mpr ⟨⟨_, "java/lang/ArithmeticException", rfl, q2071, Or.inl ⟨rfl, (List.mem_of_getElem? (i := 81) rfl)⟩⟩, (List.forall_mem_cons.mpr ⟨⟨_, "java/lang/ArithmeticException", rfl, q2071, Or.inr ⟨rfl, List.mem_of_getElem? (i := 11) rfl⟩⟩, (List.forall_mem_cons.mpr ⟨⟨_, "java/lang/ArithmeticException", rfl, q2071, Or.inr ⟨rfl, List.mem_of_getElem? (i := 2) rfl⟩⟩, (List.forall_mem_cons.mpr ⟨⟨_, "java/lang/IllegalStateException", rfl, q2106, Or.inr ⟨rfl, List.mem_of_getElem? (i := 31) rfl⟩⟩, (List.forall_mem_cons.mpr ⟨⟨_, "java/lang/IllegalStateException", rfl, q2106, Or.inr ⟨rfl, List.mem_of_getElem? (i := 50) rfl⟩⟩, (List.forall_mem_cons.mpr ⟨⟨_, "java/lang/IllegalStateException", rfl, q2106, Or.inl ⟨rfl, (List.mem_of_getElem? (i := 76) rfl)⟩⟩, (List.forall_mem_cons.mpr ⟨⟨_, "java/lang/IllegalStateException", rfl, q2106, Or.inr ⟨rfl, List.mem_of_getElem? (i := 68) rfl⟩⟩, (List.forall_mem_cons.mpr ⟨⟨_, "java/lang/IllegalStateException", rfl, q2106, Or.inr ⟨rfl, List.mem_of_getElem? (i := 59) rfl⟩⟩, (List.forall_mem_cons.mpr ⟨⟨_, "java/lang/IllegalStateException", rfl, q2106, Or.inr ⟨rfl, List.mem_of_getElem? (i := 22) rfl⟩⟩, (List.forall_mem_cons.mpr ⟨⟨_, "java/lang/IllegalStateException", rfl, q2106, Or.inr ⟨rfl, List.mem_of_getElem? (i := 13) rfl⟩⟩, (List.forall_mem_cons.mpr ⟨⟨_, "java/lang/IllegalStateException", rfl, q2106, Or.inr ⟨rfl, List.mem_of_getElem? (i := 4) rfl⟩⟩, (fun _ h => nomatch h)⟩)⟩)⟩)⟩)⟩)⟩)⟩)⟩)⟩)⟩)⟩)⟩)⟩)⟩)⟩)⟩)⟩)⟩)
def XK38 : List (Nat × Nat × Bool) := XK38_0 ++ XK38_1
def XK38a : List (Nat × Nat × Bool) := XK38_0 ++ (XK38_1)
theorem XK38_ok (X : XT) : ∀ r ∈ XK38a, ∃ (r2 : vw_C) (nm : String), (gC (mkG X))[r.2.1]? = some r2 ∧ Cond.classLink (cn 38) r.1 nm ∈ lw_all ∧ ((r.2.2 = true ∧ Cond.castable r2.1 nm ∈ gW (mkG X)) ∨ (r.2.2 = false ∧ (r2.1, nm) ∈ gN (mkG X))) := List.forall_mem_append.mpr ⟨XK38_0_ok X, XK38_1_ok X⟩
def XK39_0 : List (Nat × Nat × Bool) := [(16, 21, false), (16, 22, false), (16, 23, false), (16, 24, false), (16, 25, false), (16, 26, false), (16, 6, true), (16, 11, false), (390, 21, false), (390, 22, false), (390, 23, false), (390, 24, false), (390, 25, false), (390, 26, false), (390, 6, false), (390, 11, true), (7, 21, false), (7, 22, true), (7, 23, false), (7, 24, false), (7, 25, false), (7, 26, false), (7, 6, false), (7, 11, false), (1, 21, true), (1, 22, false), (1, 23, false), (1, 24, false), (1, 25, false), (1, 26, false)]
theorem XK39_0_ok (X : XT) : ∀ r ∈ XK39_0, ∃ (r2 : vw_C) (nm : String), (gC (mkG X))[r.2.1]? = some r2 ∧ Cond.classLink (cn 39) r.1 nm ∈ lw_all ∧ ((r.2.2 = true ∧ Cond.castable r2.1 nm ∈ gW (mkG X)) ∨ (r.2.2 = false ∧ (r2.1, nm) ∈ gN (mkG X))) := (List.forall_mem_cons.mpr ⟨⟨_, "TheatreSaga$Refusal", rfl, q1233, Or.inr ⟨rfl, List.mem_of_getElem? (i := 28) rfl⟩⟩, (List.forall_mem_cons.mpr ⟨⟨_, "TheatreSaga$Refusal", rfl, q1233, Or.inr ⟨rfl, List.mem_of_getElem? (i := 46) rfl⟩⟩, (List.forall_mem_cons.mpr ⟨⟨_, "TheatreSaga$Refusal", rfl, q1233, Or.inr ⟨rfl, List.mem_of_getElem? (i := 37) rfl⟩⟩, (List.forall_mem_cons.mpr ⟨⟨_, "TheatreSaga$Refusal", rfl, q1233, Or.inr ⟨rfl, List.mem_of_getElem? (i := 64) rfl⟩⟩, (List.forall_mem_cons.mpr ⟨⟨_, "TheatreSaga$Refusal", rfl, q1233, Or.inr ⟨rfl, List.mem_of_getElem? (i := 55) rfl⟩⟩, (List.forall_mem_cons.mpr ⟨⟨_, "TheatreSaga$Refusal", rfl, q1233, Or.inr ⟨rfl, List.mem_of_getElem? (i := 19) rfl⟩⟩, (List.forall_mem_cons.mpr ⟨⟨_, "TheatreSaga$Refusal", rfl, q1233, Or.inl ⟨rfl, (List.mem_of_getElem? (i := 75) rfl)⟩⟩, (List.forall_mem_cons.mpr ⟨⟨_, "TheatreSaga$Refusal", rfl, q1233, Or.inr ⟨rfl, List.mem_of_getElem? (i := 0) rfl⟩⟩, (List.forall_mem_cons.mpr ⟨⟨_, "TheatreSaga$FaultException", rfl, q2130, Or.inr ⟨rfl, List.mem_of_getElem? (i := 27) rfl⟩⟩, (List.forall_mem_cons.mpr ⟨⟨_, "TheatreSaga$FaultException", rfl, q2130, Or.inr ⟨rfl, List.mem_of_getElem? (i := 45) rfl⟩⟩, (List.forall_mem_cons.mpr ⟨⟨_, "TheatreSaga$FaultException", rfl, q2130, Or.inr ⟨rfl, List.mem_of_getElem? (i := 36) rfl⟩⟩, (List.forall_mem_cons.mpr ⟨⟨_, "TheatreSaga$FaultException", rfl, q2130, Or.inr ⟨rfl, List.mem_of_getElem? (i := 63) rfl⟩⟩, (List.forall_mem_cons.mpr ⟨⟨_, "TheatreSaga$FaultException", rfl, q2130, Or.inr ⟨rfl, List.mem_of_getElem? (i := 54) rfl⟩⟩, (List.forall_mem_cons.mpr ⟨⟨_, "TheatreSaga$FaultException", rfl, q2130, Or.inr ⟨rfl, List.mem_of_getElem? (i := 18) rfl⟩⟩, (List.forall_mem_cons.mpr ⟨⟨_, "TheatreSaga$FaultException", rfl, q2130, Or.inr ⟨rfl, List.mem_of_getElem? (i := 9) rfl⟩⟩, (List.forall_mem_cons.mpr ⟨⟨_, "TheatreSaga$FaultException", rfl, q2130, Or.inl ⟨rfl, (List.mem_of_getElem? (i := 82) rfl)⟩⟩, (List.forall_mem_cons.mpr ⟨⟨_, "java/lang/IndexOutOfBoundsException", rfl, q1414, Or.inr ⟨rfl, List.mem_of_getElem? (i := 32) rfl⟩⟩, (List.forall_mem_cons.mpr ⟨⟨_, "java/lang/IndexOutOfBoundsException", rfl, q1414, Or.inl ⟨rfl, (List.mem_of_getElem? (i := 62) rfl)⟩⟩, (List.forall_mem_cons.mpr ⟨⟨_, "java/lang/IndexOutOfBoundsException", rfl, q1414, Or.inr ⟨rfl, List.mem_of_getElem? (i := 41) rfl⟩⟩, (List.forall_mem_cons.mpr ⟨⟨_, "java/lang/IndexOutOfBoundsException", rfl, q1414, Or.inr ⟨rfl, List.mem_of_getElem? (i := 69) rfl⟩⟩, (List.forall_mem_cons.mpr ⟨⟨_, "java/lang/IndexOutOfBoundsException", rfl, q1414, Or.inr ⟨rfl, List.mem_of_getElem? (i := 60) rfl⟩⟩, (List.forall_mem_cons.mpr ⟨⟨_, "java/lang/IndexOutOfBoundsException", rfl, q1414, Or.inr ⟨rfl, List.mem_of_getElem? (i := 23) rfl⟩⟩, (List.forall_mem_cons.mpr ⟨⟨_, "java/lang/IndexOutOfBoundsException", rfl, q1414, Or.inr ⟨rfl, List.mem_of_getElem? (i := 14) rfl⟩⟩, (List.forall_mem_cons.mpr ⟨⟨_, "java/lang/IndexOutOfBoundsException", rfl, q1414, Or.inr ⟨rfl, List.mem_of_getElem? (i := 5) rfl⟩⟩, (List.forall_mem_cons.mpr ⟨⟨_, "java/lang/IllegalArgumentException", rfl, q1340, Or.inl ⟨rfl, (List.mem_of_getElem? (i := 64) rfl)⟩⟩, (List.forall_mem_cons.mpr ⟨⟨_, "java/lang/IllegalArgumentException", rfl, q1340, Or.inr ⟨rfl, List.mem_of_getElem? (i := 49) rfl⟩⟩, (List.forall_mem_cons.mpr ⟨⟨_, "java/lang/IllegalArgumentException", rfl, q1340, Or.inr ⟨rfl, List.mem_of_getElem? (i := 40) rfl⟩⟩, (List.forall_mem_cons.mpr ⟨⟨_, "java/lang/IllegalArgumentException", rfl, q1340, Or.inr ⟨rfl, List.mem_of_getElem? (i := 67) rfl⟩⟩, (List.forall_mem_cons.mpr ⟨⟨_, "java/lang/IllegalArgumentException", rfl, q1340, Or.inr ⟨rfl, List.mem_of_getElem? (i := 58) rfl⟩⟩, (List.forall_mem_cons.mpr ⟨⟨_, "java/lang/IllegalArgumentException", rfl, q1340, Or.inr ⟨rfl, List.mem_of_getElem? (i := 21) rfl⟩⟩, (fun _ h => nomatch h)⟩)⟩)⟩)⟩)⟩)⟩)⟩)⟩)⟩)⟩)⟩)⟩)⟩)⟩)⟩)⟩)⟩)⟩)⟩)⟩)⟩)⟩)⟩)⟩)⟩)⟩)⟩)⟩)⟩)⟩)
def XK39_1 : List (Nat × Nat × Bool) := [(1, 6, false), (1, 11, false)]
theorem XK39_1_ok (X : XT) : ∀ r ∈ XK39_1, ∃ (r2 : vw_C) (nm : String), (gC (mkG X))[r.2.1]? = some r2 ∧ Cond.classLink (cn 39) r.1 nm ∈ lw_all ∧ ((r.2.2 = true ∧ Cond.castable r2.1 nm ∈ gW (mkG X)) ∨ (r.2.2 = false ∧ (r2.1, nm) ∈ gN (mkG X))) := (List.forall_mem_cons.mpr ⟨⟨_, "java/lang/IllegalArgumentException", rfl, q1340, Or.inr ⟨rfl, List.mem_of_getElem? (i := 12) rfl⟩⟩, (List.forall_mem_cons.mpr ⟨⟨_, "java/lang/IllegalArgumentException", rfl, q1340, Or.inr ⟨rfl, List.mem_of_getElem? (i := 3) rfl⟩⟩, (fun _ h => nomatch h)⟩)⟩)
def XK39 : List (Nat × Nat × Bool) := XK39_0 ++ XK39_1
def XK39a : List (Nat × Nat × Bool) := XK39_0 ++ (XK39_1)
theorem XK39_ok (X : XT) : ∀ r ∈ XK39a, ∃ (r2 : vw_C) (nm : String), (gC (mkG X))[r.2.1]? = some r2 ∧ Cond.classLink (cn 39) r.1 nm ∈ lw_all ∧ ((r.2.2 = true ∧ Cond.castable r2.1 nm ∈ gW (mkG X)) ∨ (r.2.2 = false ∧ (r2.1, nm) ∈ gN (mkG X))) := List.forall_mem_append.mpr ⟨XK39_0_ok X, XK39_1_ok X⟩
def XKT : Nat → List (Nat × Nat × Bool)
  | 38 => XK38a
  | 39 => XK39a
  | _ => []
def XK (o i c : Nat) : Option (Bool) := lk (XKT o) i c
theorem XK_ok (X : XT) (o : Nat) : ∀ r ∈ XKT o, ∃ (r2 : vw_C) (nm : String), (gC (mkG X))[r.2.1]? = some r2 ∧ Cond.classLink (cn o) r.1 nm ∈ lw_all ∧ ((r.2.2 = true ∧ Cond.castable r2.1 nm ∈ gW (mkG X)) ∨ (r.2.2 = false ∧ (r2.1, nm) ∈ gN (mkG X))) := by
  unfold XKT
  split
  · exact XK38_ok X
  · exact XK39_ok X
  · exact fun _ h => nomatch h
theorem xk_38_13_21 : XK 38 13 21 = some (true) := rfl
theorem xk_38_13_22 : XK 38 13 22 = some (false) := rfl
theorem xk_38_13_23 : XK 38 13 23 = some (false) := rfl
theorem xk_38_13_24 : XK 38 13 24 = some (false) := rfl
theorem xk_38_13_25 : XK 38 13 25 = some (false) := rfl
theorem xk_38_13_26 : XK 38 13 26 = some (false) := rfl
theorem xk_38_13_6 : XK 38 13 6 = some (false) := rfl
theorem xk_38_13_11 : XK 38 13 11 = some (false) := rfl
theorem xk_38_15_21 : XK 38 15 21 = some (false) := rfl
theorem xk_38_15_22 : XK 38 15 22 = some (false) := rfl
theorem xk_38_15_23 : XK 38 15 23 = some (false) := rfl
theorem xk_38_15_24 : XK 38 15 24 = some (false) := rfl
theorem xk_38_15_25 : XK 38 15 25 = some (true) := rfl
theorem xk_38_15_26 : XK 38 15 26 = some (false) := rfl
theorem xk_38_15_6 : XK 38 15 6 = some (false) := rfl
theorem xk_38_15_11 : XK 38 15 11 = some (false) := rfl
theorem xk_38_21_21 : XK 38 21 21 = some (false) := rfl
theorem xk_38_21_22 : XK 38 21 22 = some (true) := rfl
theorem xk_38_21_23 : XK 38 21 23 = some (false) := rfl
theorem xk_38_21_24 : XK 38 21 24 = some (false) := rfl
theorem xk_38_21_25 : XK 38 21 25 = some (false) := rfl
theorem xk_38_21_26 : XK 38 21 26 = some (false) := rfl
theorem xk_38_21_6 : XK 38 21 6 = some (false) := rfl
theorem xk_38_21_11 : XK 38 21 11 = some (false) := rfl
theorem xk_38_59_21 : XK 38 59 21 = some (false) := rfl
theorem xk_38_59_22 : XK 38 59 22 = some (false) := rfl
theorem xk_38_59_23 : XK 38 59 23 = some (false) := rfl
theorem xk_38_59_24 : XK 38 59 24 = some (true) := rfl
theorem xk_38_59_25 : XK 38 59 25 = some (false) := rfl
theorem xk_38_59_26 : XK 38 59 26 = some (false) := rfl
theorem xk_38_59_6 : XK 38 59 6 = some (false) := rfl
theorem xk_38_59_11 : XK 38 59 11 = some (false) := rfl
theorem xk_38_87_21 : XK 38 87 21 = some (false) := rfl
theorem xk_38_87_22 : XK 38 87 22 = some (false) := rfl
theorem xk_38_87_23 : XK 38 87 23 = some (false) := rfl
theorem xk_38_87_24 : XK 38 87 24 = some (false) := rfl
theorem xk_38_87_25 : XK 38 87 25 = some (false) := rfl
theorem xk_38_87_26 : XK 38 87 26 = some (true) := rfl
theorem xk_38_87_6 : XK 38 87 6 = some (false) := rfl
theorem xk_38_87_11 : XK 38 87 11 = some (false) := rfl
theorem xk_38_97_21 : XK 38 97 21 = some (false) := rfl
theorem xk_38_97_22 : XK 38 97 22 = some (false) := rfl
theorem xk_38_97_23 : XK 38 97 23 = some (true) := rfl
theorem xk_38_97_24 : XK 38 97 24 = some (false) := rfl
theorem xk_38_97_25 : XK 38 97 25 = some (false) := rfl
theorem xk_38_97_26 : XK 38 97 26 = some (false) := rfl
theorem xk_38_97_6 : XK 38 97 6 = some (false) := rfl
theorem xk_38_97_11 : XK 38 97 11 = some (false) := rfl
theorem xk_39_16_21 : XK 39 16 21 = some (false) := rfl
theorem xk_39_16_22 : XK 39 16 22 = some (false) := rfl
theorem xk_39_16_23 : XK 39 16 23 = some (false) := rfl
theorem xk_39_16_24 : XK 39 16 24 = some (false) := rfl
theorem xk_39_16_25 : XK 39 16 25 = some (false) := rfl
theorem xk_39_16_26 : XK 39 16 26 = some (false) := rfl
theorem xk_39_16_6 : XK 39 16 6 = some (true) := rfl
theorem xk_39_16_11 : XK 39 16 11 = some (false) := rfl
theorem xk_39_390_21 : XK 39 390 21 = some (false) := rfl
theorem xk_39_390_22 : XK 39 390 22 = some (false) := rfl
theorem xk_39_390_23 : XK 39 390 23 = some (false) := rfl
theorem xk_39_390_24 : XK 39 390 24 = some (false) := rfl
theorem xk_39_390_25 : XK 39 390 25 = some (false) := rfl
theorem xk_39_390_26 : XK 39 390 26 = some (false) := rfl
theorem xk_39_390_6 : XK 39 390 6 = some (false) := rfl
theorem xk_39_390_11 : XK 39 390 11 = some (true) := rfl
theorem xk_39_7_21 : XK 39 7 21 = some (false) := rfl
theorem xk_39_7_22 : XK 39 7 22 = some (true) := rfl
theorem xk_39_7_23 : XK 39 7 23 = some (false) := rfl
theorem xk_39_7_24 : XK 39 7 24 = some (false) := rfl
theorem xk_39_7_25 : XK 39 7 25 = some (false) := rfl
theorem xk_39_7_26 : XK 39 7 26 = some (false) := rfl
theorem xk_39_7_6 : XK 39 7 6 = some (false) := rfl
theorem xk_39_7_11 : XK 39 7 11 = some (false) := rfl
theorem xk_39_1_21 : XK 39 1 21 = some (true) := rfl
theorem xk_39_1_22 : XK 39 1 22 = some (false) := rfl
theorem xk_39_1_23 : XK 39 1 23 = some (false) := rfl
theorem xk_39_1_24 : XK 39 1 24 = some (false) := rfl
theorem xk_39_1_25 : XK 39 1 25 = some (false) := rfl
theorem xk_39_1_26 : XK 39 1 26 = some (false) := rfl
theorem xk_39_1_6 : XK 39 1 6 = some (false) := rfl
theorem xk_39_1_11 : XK 39 1 11 = some (false) := rfl
theorem OB_ok (X : XT) : OB (mkG X) := (List.forall_mem_cons.mpr ⟨(List.mem_of_getElem? (i := 85) rfl), (List.forall_mem_cons.mpr ⟨(List.mem_of_getElem? (i := 88) rfl), (List.forall_mem_cons.mpr ⟨(List.mem_of_getElem? (i := 90) rfl), (List.forall_mem_cons.mpr ⟨(List.mem_of_getElem? (i := 91) rfl), (List.forall_mem_cons.mpr ⟨(List.mem_of_getElem? (i := 94) rfl), (List.forall_mem_cons.mpr ⟨(List.mem_of_getElem? (i := 97) rfl), (List.forall_mem_cons.mpr ⟨(List.mem_of_getElem? (i := 99) rfl), (List.forall_mem_cons.mpr ⟨(List.mem_of_getElem? (i := 100) rfl), (List.forall_mem_cons.mpr ⟨(List.mem_of_getElem? (i := 102) rfl), (List.forall_mem_cons.mpr ⟨(List.mem_of_getElem? (i := 106) rfl), (List.forall_mem_cons.mpr ⟨(List.mem_of_getElem? (i := 114) rfl), (List.forall_mem_cons.mpr ⟨(List.mem_of_getElem? (i := 115) rfl), (List.forall_mem_cons.mpr ⟨(List.mem_of_getElem? (i := 86) rfl), (List.forall_mem_cons.mpr ⟨(List.mem_of_getElem? (i := 87) rfl), (List.forall_mem_cons.mpr ⟨(List.mem_of_getElem? (i := 96) rfl), (List.forall_mem_cons.mpr ⟨(List.mem_of_getElem? (i := 89) rfl), (List.forall_mem_cons.mpr ⟨(List.mem_of_getElem? (i := 92) rfl), (List.forall_mem_cons.mpr ⟨(List.mem_of_getElem? (i := 107) rfl), (List.forall_mem_cons.mpr ⟨(List.mem_of_getElem? (i := 109) rfl), (List.forall_mem_cons.mpr ⟨(List.mem_of_getElem? (i := 112) rfl), (List.forall_mem_cons.mpr ⟨(List.mem_of_getElem? (i := 108) rfl), (List.forall_mem_cons.mpr ⟨(List.mem_of_getElem? (i := 95) rfl), (List.forall_mem_cons.mpr ⟨(List.mem_of_getElem? (i := 101) rfl), (List.forall_mem_cons.mpr ⟨(List.mem_of_getElem? (i := 103) rfl), (List.forall_mem_cons.mpr ⟨(List.mem_of_getElem? (i := 93) rfl), (List.forall_mem_cons.mpr ⟨(List.mem_of_getElem? (i := 104) rfl), (List.forall_mem_cons.mpr ⟨(List.mem_of_getElem? (i := 113) rfl), (fun _ h => nomatch h)⟩)⟩)⟩)⟩)⟩)⟩)⟩)⟩)⟩)⟩)⟩)⟩)⟩)⟩)⟩)⟩)⟩)⟩)⟩)⟩)⟩)⟩)⟩)⟩)⟩)⟩)⟩)
def IT4 : List (Nat × Nat × Nat) := [(10, 0, 14)]
theorem IT4_ok (X : XT) : ∀ r ∈ IT4, Cond.classLink (cn 4) r.1 "java/lang/String" ∈ lw_all := (List.forall_mem_cons.mpr ⟨q1317, (fun _ h => nomatch h)⟩)
def IT3 : List (Nat × Nat × Nat) := [(18, 0, 14)]
theorem IT3_ok (X : XT) : ∀ r ∈ IT3, Cond.classLink (cn 3) r.1 "java/lang/String" ∈ lw_all := (List.forall_mem_cons.mpr ⟨q705, (fun _ h => nomatch h)⟩)
def IT18 : List (Nat × Nat × Nat) := [(1, 0, 14)]
theorem IT18_ok (X : XT) : ∀ r ∈ IT18, Cond.classLink (cn 18) r.1 "java/lang/String" ∈ lw_all := (List.forall_mem_cons.mpr ⟨q2247, (fun _ h => nomatch h)⟩)
def IT5 : List (Nat × Nat × Nat) := [(3, 0, 14)]
theorem IT5_ok (X : XT) : ∀ r ∈ IT5, Cond.classLink (cn 5) r.1 "java/lang/String" ∈ lw_all := (List.forall_mem_cons.mpr ⟨q2259, (fun _ h => nomatch h)⟩)
def ITT : Nat → List (Nat × Nat × Nat)
  | 4 => IT4
  | 3 => IT3
  | 18 => IT18
  | 5 => IT5
  | _ => []
def IT (o i : Nat) : Option (Nat) := lk (ITT o) i 0
theorem IT_ok (X : XT) (o : Nat) : ∀ r ∈ ITT o, Cond.classLink (cn o) r.1 "java/lang/String" ∈ lw_all := by
  unfold ITT
  split
  · exact IT4_ok X
  · exact IT3_ok X
  · exact IT18_ok X
  · exact IT5_ok X
  · exact fun _ h => nomatch h
theorem it_4_10 : IT 4 10 = some (14) := rfl
theorem it_3_18 : IT 3 18 = some (14) := rfl
theorem it_18_1 : IT 18 1 = some (14) := rfl
theorem it_5_3 : IT 5 3 = some (14) := rfl
theorem thr_ok : ∀ w ∈ Bundle.throwableAtoms, vx_no w = true → w ∈ lw_all ∨ w ∈ NWs := (List.forall_mem_cons.mpr ⟨fun _ => Or.inl q93, (List.forall_mem_cons.mpr ⟨fun _ => Or.inl q537, (List.forall_mem_cons.mpr ⟨fun _ => Or.inl q546, (List.forall_mem_cons.mpr ⟨fun _ => Or.inl q557, (List.forall_mem_cons.mpr ⟨fun _ => Or.inl q560, (List.forall_mem_cons.mpr ⟨fun _ => Or.inl q562, (List.forall_mem_cons.mpr ⟨fun _ => Or.inl q538, (List.forall_mem_cons.mpr ⟨fun _ => Or.inl q539, (List.forall_mem_cons.mpr ⟨fun _ => Or.inl q132, (List.forall_mem_cons.mpr ⟨fun _ => Or.inl q133, (List.forall_mem_cons.mpr ⟨fun _ => Or.inl q540, (List.forall_mem_cons.mpr ⟨fun _ => Or.inl q545, (List.forall_mem_cons.mpr ⟨fun _ => Or.inl q558, (List.forall_mem_cons.mpr ⟨fun _ => Or.inl q766, (List.forall_mem_cons.mpr ⟨fun _ => Or.inl q527, (List.forall_mem_cons.mpr ⟨fun _ => Or.inl q767, (List.forall_mem_cons.mpr ⟨fun _ => Or.inl q529, (List.forall_mem_cons.mpr ⟨fun _ => Or.inl q768, (List.forall_mem_cons.mpr ⟨fun _ => Or.inl q531, (List.forall_mem_cons.mpr ⟨fun _ => Or.inl q541, (List.forall_mem_cons.mpr ⟨(fun h => absurd h (by decide +kernel)), (List.forall_mem_cons.mpr ⟨fun _ => Or.inl q543, (List.forall_mem_cons.mpr ⟨(fun h => absurd h (by decide +kernel)), (List.forall_mem_cons.mpr ⟨fun _ => Or.inl q533, (fun _ h => nomatch h)⟩)⟩)⟩)⟩)⟩)⟩)⟩)⟩)⟩)⟩)⟩)⟩)⟩)⟩)⟩)⟩)⟩)⟩)⟩)⟩)⟩)⟩)⟩)⟩)
theorem chJ21 : ∀ w ∈ Bundle.chain0Atoms "java/lang/IllegalArgumentException" ["java/lang/RuntimeException", "java/lang/Exception"], vx_no w = true → w ∈ lw_all ∨ w ∈ NWs := List.forall_mem_append.mpr ⟨(List.forall_mem_cons.mpr ⟨fun _ => Or.inl q1342, (List.forall_mem_cons.mpr ⟨fun _ => Or.inl q1343, (List.forall_mem_cons.mpr ⟨fun _ => Or.inl q1344, (List.forall_mem_cons.mpr ⟨fun _ => Or.inl q945, (List.forall_mem_cons.mpr ⟨fun _ => Or.inr (List.mem_of_getElem? (i := 127) rfl), (fun _ h => nomatch h)⟩)⟩)⟩)⟩)⟩), List.forall_mem_append.mpr ⟨(List.forall_mem_cons.mpr ⟨fun _ => Or.inl q945, (List.forall_mem_cons.mpr ⟨fun _ => Or.inl q946, (List.forall_mem_cons.mpr ⟨fun _ => Or.inl q947, (List.forall_mem_cons.mpr ⟨fun _ => Or.inl q948, (List.forall_mem_cons.mpr ⟨fun _ => Or.inr (List.mem_of_getElem? (i := 129) rfl), (fun _ h => nomatch h)⟩)⟩)⟩)⟩)⟩), (List.forall_mem_cons.mpr ⟨fun _ => Or.inl q948, (List.forall_mem_cons.mpr ⟨fun _ => Or.inl q949, (List.forall_mem_cons.mpr ⟨fun _ => Or.inl q950, (List.forall_mem_cons.mpr ⟨fun _ => Or.inl q538, (List.forall_mem_cons.mpr ⟨fun _ => Or.inr (List.mem_of_getElem? (i := 131) rfl), (fun _ h => nomatch h)⟩)⟩)⟩)⟩)⟩)⟩⟩
theorem chJ16 : ∀ w ∈ Bundle.chain0Atoms "java/lang/IndexOutOfBoundsException" ["java/lang/RuntimeException", "java/lang/Exception"], vx_no w = true → w ∈ lw_all ∨ w ∈ NWs := List.forall_mem_append.mpr ⟨(List.forall_mem_cons.mpr ⟨fun _ => Or.inl q1416, (List.forall_mem_cons.mpr ⟨fun _ => Or.inl q1417, (List.forall_mem_cons.mpr ⟨fun _ => Or.inl q1418, (List.forall_mem_cons.mpr ⟨fun _ => Or.inl q945, (List.forall_mem_cons.mpr ⟨fun _ => Or.inr (List.mem_of_getElem? (i := 127) rfl), (fun _ h => nomatch h)⟩)⟩)⟩)⟩)⟩), List.forall_mem_append.mpr ⟨(List.forall_mem_cons.mpr ⟨fun _ => Or.inl q945, (List.forall_mem_cons.mpr ⟨fun _ => Or.inl q946, (List.forall_mem_cons.mpr ⟨fun _ => Or.inl q947, (List.forall_mem_cons.mpr ⟨fun _ => Or.inl q948, (List.forall_mem_cons.mpr ⟨fun _ => Or.inr (List.mem_of_getElem? (i := 129) rfl), (fun _ h => nomatch h)⟩)⟩)⟩)⟩)⟩), (List.forall_mem_cons.mpr ⟨fun _ => Or.inl q948, (List.forall_mem_cons.mpr ⟨fun _ => Or.inl q949, (List.forall_mem_cons.mpr ⟨fun _ => Or.inl q950, (List.forall_mem_cons.mpr ⟨fun _ => Or.inl q538, (List.forall_mem_cons.mpr ⟨fun _ => Or.inr (List.mem_of_getElem? (i := 131) rfl), (fun _ h => nomatch h)⟩)⟩)⟩)⟩)⟩)⟩⟩
theorem chJ28 : ∀ w ∈ Bundle.chain0Atoms "java/lang/IllegalStateException" ["java/lang/RuntimeException", "java/lang/Exception"], vx_no w = true → w ∈ lw_all ∨ w ∈ NWs := List.forall_mem_append.mpr ⟨(List.forall_mem_cons.mpr ⟨fun _ => Or.inl q2116, (List.forall_mem_cons.mpr ⟨fun _ => Or.inl q2117, (List.forall_mem_cons.mpr ⟨fun _ => Or.inl q2118, (List.forall_mem_cons.mpr ⟨fun _ => Or.inl q945, (List.forall_mem_cons.mpr ⟨fun _ => Or.inr (List.mem_of_getElem? (i := 127) rfl), (fun _ h => nomatch h)⟩)⟩)⟩)⟩)⟩), List.forall_mem_append.mpr ⟨(List.forall_mem_cons.mpr ⟨fun _ => Or.inl q945, (List.forall_mem_cons.mpr ⟨fun _ => Or.inl q946, (List.forall_mem_cons.mpr ⟨fun _ => Or.inl q947, (List.forall_mem_cons.mpr ⟨fun _ => Or.inl q948, (List.forall_mem_cons.mpr ⟨fun _ => Or.inr (List.mem_of_getElem? (i := 129) rfl), (fun _ h => nomatch h)⟩)⟩)⟩)⟩)⟩), (List.forall_mem_cons.mpr ⟨fun _ => Or.inl q948, (List.forall_mem_cons.mpr ⟨fun _ => Or.inl q949, (List.forall_mem_cons.mpr ⟨fun _ => Or.inl q950, (List.forall_mem_cons.mpr ⟨fun _ => Or.inl q538, (List.forall_mem_cons.mpr ⟨fun _ => Or.inr (List.mem_of_getElem? (i := 131) rfl), (fun _ h => nomatch h)⟩)⟩)⟩)⟩)⟩)⟩⟩
theorem chJ25 : ∀ w ∈ Bundle.chain0Atoms "java/util/NoSuchElementException" ["java/lang/RuntimeException", "java/lang/Exception"], vx_no w = true → w ∈ lw_all ∨ w ∈ NWs := List.forall_mem_append.mpr ⟨(List.forall_mem_cons.mpr ⟨fun _ => Or.inl q942, (List.forall_mem_cons.mpr ⟨fun _ => Or.inl q943, (List.forall_mem_cons.mpr ⟨fun _ => Or.inl q944, (List.forall_mem_cons.mpr ⟨fun _ => Or.inl q945, (List.forall_mem_cons.mpr ⟨fun _ => Or.inr (List.mem_of_getElem? (i := 127) rfl), (fun _ h => nomatch h)⟩)⟩)⟩)⟩)⟩), List.forall_mem_append.mpr ⟨(List.forall_mem_cons.mpr ⟨fun _ => Or.inl q945, (List.forall_mem_cons.mpr ⟨fun _ => Or.inl q946, (List.forall_mem_cons.mpr ⟨fun _ => Or.inl q947, (List.forall_mem_cons.mpr ⟨fun _ => Or.inl q948, (List.forall_mem_cons.mpr ⟨fun _ => Or.inr (List.mem_of_getElem? (i := 129) rfl), (fun _ h => nomatch h)⟩)⟩)⟩)⟩)⟩), (List.forall_mem_cons.mpr ⟨fun _ => Or.inl q948, (List.forall_mem_cons.mpr ⟨fun _ => Or.inl q949, (List.forall_mem_cons.mpr ⟨fun _ => Or.inl q950, (List.forall_mem_cons.mpr ⟨fun _ => Or.inl q538, (List.forall_mem_cons.mpr ⟨fun _ => Or.inr (List.mem_of_getElem? (i := 131) rfl), (fun _ h => nomatch h)⟩)⟩)⟩)⟩)⟩)⟩⟩
theorem chJ29 : ∀ w ∈ Bundle.chain0Atoms "java/lang/UnsupportedOperationException" ["java/lang/RuntimeException", "java/lang/Exception"], vx_no w = true → w ∈ lw_all ∨ w ∈ NWs := List.forall_mem_append.mpr ⟨(List.forall_mem_cons.mpr ⟨fun _ => Or.inl q1686, (List.forall_mem_cons.mpr ⟨fun _ => Or.inl q1687, (List.forall_mem_cons.mpr ⟨fun _ => Or.inl q1688, (List.forall_mem_cons.mpr ⟨fun _ => Or.inl q945, (List.forall_mem_cons.mpr ⟨fun _ => Or.inr (List.mem_of_getElem? (i := 127) rfl), (fun _ h => nomatch h)⟩)⟩)⟩)⟩)⟩), List.forall_mem_append.mpr ⟨(List.forall_mem_cons.mpr ⟨fun _ => Or.inl q945, (List.forall_mem_cons.mpr ⟨fun _ => Or.inl q946, (List.forall_mem_cons.mpr ⟨fun _ => Or.inl q947, (List.forall_mem_cons.mpr ⟨fun _ => Or.inl q948, (List.forall_mem_cons.mpr ⟨fun _ => Or.inr (List.mem_of_getElem? (i := 129) rfl), (fun _ h => nomatch h)⟩)⟩)⟩)⟩)⟩), (List.forall_mem_cons.mpr ⟨fun _ => Or.inl q948, (List.forall_mem_cons.mpr ⟨fun _ => Or.inl q949, (List.forall_mem_cons.mpr ⟨fun _ => Or.inl q950, (List.forall_mem_cons.mpr ⟨fun _ => Or.inl q538, (List.forall_mem_cons.mpr ⟨fun _ => Or.inr (List.mem_of_getElem? (i := 131) rfl), (fun _ h => nomatch h)⟩)⟩)⟩)⟩)⟩)⟩⟩
theorem chJ33 : ∀ w ∈ Bundle.chain0Atoms "java/lang/ArithmeticException" ["java/lang/RuntimeException", "java/lang/Exception"], vx_no w = true → w ∈ lw_all ∨ w ∈ NWs := List.forall_mem_append.mpr ⟨(List.forall_mem_cons.mpr ⟨fun _ => Or.inl q2093, (List.forall_mem_cons.mpr ⟨fun _ => Or.inl q2094, (List.forall_mem_cons.mpr ⟨fun _ => Or.inl q2095, (List.forall_mem_cons.mpr ⟨fun _ => Or.inl q945, (List.forall_mem_cons.mpr ⟨fun _ => Or.inr (List.mem_of_getElem? (i := 127) rfl), (fun _ h => nomatch h)⟩)⟩)⟩)⟩)⟩), List.forall_mem_append.mpr ⟨(List.forall_mem_cons.mpr ⟨fun _ => Or.inl q945, (List.forall_mem_cons.mpr ⟨fun _ => Or.inl q946, (List.forall_mem_cons.mpr ⟨fun _ => Or.inl q947, (List.forall_mem_cons.mpr ⟨fun _ => Or.inl q948, (List.forall_mem_cons.mpr ⟨fun _ => Or.inr (List.mem_of_getElem? (i := 129) rfl), (fun _ h => nomatch h)⟩)⟩)⟩)⟩)⟩), (List.forall_mem_cons.mpr ⟨fun _ => Or.inl q948, (List.forall_mem_cons.mpr ⟨fun _ => Or.inl q949, (List.forall_mem_cons.mpr ⟨fun _ => Or.inl q950, (List.forall_mem_cons.mpr ⟨fun _ => Or.inl q538, (List.forall_mem_cons.mpr ⟨fun _ => Or.inr (List.mem_of_getElem? (i := 131) rfl), (fun _ h => nomatch h)⟩)⟩)⟩)⟩)⟩)⟩⟩
def EK39 : List (Nat × Nat × (Nat × Nat)) := [(13, 0, (15, 24)), (1, 0, (3, 21)), (7, 0, (9, 22)), (80, 0, (82, 25)), (372, 0, (374, 26)), (10, 0, (12, 23))]
theorem EK39_ok (X : XT) : ∀ r ∈ EK39, XS (mkG X) (cn 39) r.1 r.2.2.1 r.2.2.2 := (List.forall_mem_cons.mpr ⟨⟨"java/util/NoSuchElementException", ["java/lang/RuntimeException", "java/lang/Exception"], _, rfl, by decide +kernel, by decide +kernel, by decide, q932, q106, fun w hw => (List.forall_mem_append.mpr ⟨List.forall_mem_append.mpr ⟨thr_ok, chJ25⟩, (List.forall_mem_cons.mpr ⟨fun _ => Or.inl q941, (List.forall_mem_cons.mpr ⟨fun _ => Or.inl q933, (List.forall_mem_cons.mpr ⟨fun _ => Or.inr (List.mem_of_getElem? (i := 70) rfl), (List.forall_mem_cons.mpr ⟨fun _ => Or.inl q935, (List.forall_mem_cons.mpr ⟨fun _ => Or.inl q556, (List.forall_mem_cons.mpr ⟨fun _ => Or.inl q936, (List.forall_mem_cons.mpr ⟨fun _ => Or.inl q937, (List.forall_mem_cons.mpr ⟨fun _ => Or.inl q938, (List.forall_mem_cons.mpr ⟨fun _ => Or.inl q939, (List.forall_mem_cons.mpr ⟨(fun h => absurd h (by decide +kernel)), (List.forall_mem_cons.mpr ⟨(fun h => absurd h (by decide +kernel)), (List.forall_mem_cons.mpr ⟨fun _ => Or.inl q764, (List.forall_mem_cons.mpr ⟨fun _ => Or.inl q535, (List.forall_mem_cons.mpr ⟨fun _ => Or.inl q940, (fun _ h => nomatch h)⟩)⟩)⟩)⟩)⟩)⟩)⟩)⟩)⟩)⟩)⟩)⟩)⟩)⟩)⟩ : ∀ w ∈ Bundle.ownAtoms0 "TheatreSaga" 15 "java/util/NoSuchElementException" ["java/lang/RuntimeException", "java/lang/Exception"], vx_no w = true → w ∈ lw_all ∨ w ∈ NWs) w (List.mem_filter.mp hw).1 (List.mem_filter.mp hw).2⟩, (List.forall_mem_cons.mpr ⟨⟨"java/lang/IllegalArgumentException", ["java/lang/RuntimeException", "java/lang/Exception"], _, rfl, by decide +kernel, by decide +kernel, by decide, q1340, q101, fun w hw => (List.forall_mem_append.mpr ⟨List.forall_mem_append.mpr ⟨thr_ok, chJ21⟩, (List.forall_mem_cons.mpr ⟨fun _ => Or.inl q1341, (List.forall_mem_cons.mpr ⟨fun _ => Or.inl q738, (List.forall_mem_cons.mpr ⟨fun _ => Or.inr (List.mem_of_getElem? (i := 64) rfl), (List.forall_mem_cons.mpr ⟨fun _ => Or.inl q740, (List.forall_mem_cons.mpr ⟨fun _ => Or.inl q552, (List.forall_mem_cons.mpr ⟨fun _ => Or.inl q741, (List.forall_mem_cons.mpr ⟨fun _ => Or.inl q742, (List.forall_mem_cons.mpr ⟨fun _ => Or.inl q743, (List.forall_mem_cons.mpr ⟨fun _ => Or.inl q744, (List.forall_mem_cons.mpr ⟨(fun h => absurd h (by decide +kernel)), (List.forall_mem_cons.mpr ⟨(fun h => absurd h (by decide +kernel)), (List.forall_mem_cons.mpr ⟨fun _ => Or.inl q764, (List.forall_mem_cons.mpr ⟨fun _ => Or.inl q535, (List.forall_mem_cons.mpr ⟨fun _ => Or.inl q745, (fun _ h => nomatch h)⟩)⟩)⟩)⟩)⟩)⟩)⟩)⟩)⟩)⟩)⟩)⟩)⟩)⟩)⟩ : ∀ w ∈ Bundle.ownAtoms0 "TheatreSaga" 3 "java/lang/IllegalArgumentException" ["java/lang/RuntimeException", "java/lang/Exception"], vx_no w = true → w ∈ lw_all ∨ w ∈ NWs) w (List.mem_filter.mp hw).1 (List.mem_filter.mp hw).2⟩, (List.forall_mem_cons.mpr ⟨⟨"java/lang/IndexOutOfBoundsException", ["java/lang/RuntimeException", "java/lang/Exception"], _, rfl, by decide +kernel, by decide +kernel, by decide, q1414, q96, fun w hw => (List.forall_mem_append.mpr ⟨List.forall_mem_append.mpr ⟨thr_ok, chJ16⟩, (List.forall_mem_cons.mpr ⟨fun _ => Or.inl q1415, (List.forall_mem_cons.mpr ⟨fun _ => Or.inl q516, (List.forall_mem_cons.mpr ⟨fun _ => Or.inr (List.mem_of_getElem? (i := 62) rfl), (List.forall_mem_cons.mpr ⟨fun _ => Or.inl q524, (List.forall_mem_cons.mpr ⟨fun _ => Or.inl q525, (List.forall_mem_cons.mpr ⟨fun _ => Or.inl q526, (List.forall_mem_cons.mpr ⟨fun _ => Or.inl q528, (List.forall_mem_cons.mpr ⟨fun _ => Or.inl q530, (List.forall_mem_cons.mpr ⟨fun _ => Or.inl q532, (List.forall_mem_cons.mpr ⟨(fun h => absurd h (by decide +kernel)), (List.forall_mem_cons.mpr ⟨(fun h => absurd h (by decide +kernel)), (List.forall_mem_cons.mpr ⟨fun _ => Or.inl q764, (List.forall_mem_cons.mpr ⟨fun _ => Or.inl q535, (List.forall_mem_cons.mpr ⟨fun _ => Or.inl q534, (fun _ h => nomatch h)⟩)⟩)⟩)⟩)⟩)⟩)⟩)⟩)⟩)⟩)⟩)⟩)⟩)⟩)⟩ : ∀ w ∈ Bundle.ownAtoms0 "TheatreSaga" 9 "java/lang/IndexOutOfBoundsException" ["java/lang/RuntimeException", "java/lang/Exception"], vx_no w = true → w ∈ lw_all ∨ w ∈ NWs) w (List.mem_filter.mp hw).1 (List.mem_filter.mp hw).2⟩, (List.forall_mem_cons.mpr ⟨⟨"java/lang/UnsupportedOperationException", ["java/lang/RuntimeException", "java/lang/Exception"], _, rfl, by decide +kernel, by decide +kernel, by decide, q1676, q115, fun w hw => (List.forall_mem_append.mpr ⟨List.forall_mem_append.mpr ⟨thr_ok, chJ29⟩, (List.forall_mem_cons.mpr ⟨fun _ => Or.inl q1685, (List.forall_mem_cons.mpr ⟨fun _ => Or.inl q1677, (List.forall_mem_cons.mpr ⟨fun _ => Or.inr (List.mem_of_getElem? (i := 77) rfl), (List.forall_mem_cons.mpr ⟨fun _ => Or.inl q1679, (List.forall_mem_cons.mpr ⟨fun _ => Or.inl q555, (List.forall_mem_cons.mpr ⟨fun _ => Or.inl q1680, (List.forall_mem_cons.mpr ⟨fun _ => Or.inl q1681, (List.forall_mem_cons.mpr ⟨fun _ => Or.inl q1682, (List.forall_mem_cons.mpr ⟨fun _ => Or.inl q1683, (List.forall_mem_cons.mpr ⟨(fun h => absurd h (by decide +kernel)), (List.forall_mem_cons.mpr ⟨(fun h => absurd h (by decide +kernel)), (List.forall_mem_cons.mpr ⟨fun _ => Or.inl q764, (List.forall_mem_cons.mpr ⟨fun _ => Or.inl q535, (List.forall_mem_cons.mpr ⟨fun _ => Or.inl q1684, (fun _ h => nomatch h)⟩)⟩)⟩)⟩)⟩)⟩)⟩)⟩)⟩)⟩)⟩)⟩)⟩)⟩)⟩ : ∀ w ∈ Bundle.ownAtoms0 "TheatreSaga" 82 "java/lang/UnsupportedOperationException" ["java/lang/RuntimeException", "java/lang/Exception"], vx_no w = true → w ∈ lw_all ∨ w ∈ NWs) w (List.mem_filter.mp hw).1 (List.mem_filter.mp hw).2⟩, (List.forall_mem_cons.mpr ⟨⟨"java/lang/ArithmeticException", ["java/lang/RuntimeException", "java/lang/Exception"], _, rfl, by decide +kernel, by decide +kernel, by decide, q2091, q121, fun w hw => (List.forall_mem_append.mpr ⟨List.forall_mem_append.mpr ⟨thr_ok, chJ33⟩, (List.forall_mem_cons.mpr ⟨fun _ => Or.inl q2092, (List.forall_mem_cons.mpr ⟨fun _ => Or.inl q2072, (List.forall_mem_cons.mpr ⟨fun _ => Or.inr (List.mem_of_getElem? (i := 81) rfl), (List.forall_mem_cons.mpr ⟨fun _ => Or.inl q2084, (List.forall_mem_cons.mpr ⟨fun _ => Or.inl q550, (List.forall_mem_cons.mpr ⟨fun _ => Or.inl q2078, (List.forall_mem_cons.mpr ⟨fun _ => Or.inl q2079, (List.forall_mem_cons.mpr ⟨fun _ => Or.inl q2081, (List.forall_mem_cons.mpr ⟨fun _ => Or.inl q2077, (List.forall_mem_cons.mpr ⟨(fun h => absurd h (by decide +kernel)), (List.forall_mem_cons.mpr ⟨(fun h => absurd h (by decide +kernel)), (List.forall_mem_cons.mpr ⟨fun _ => Or.inl q764, (List.forall_mem_cons.mpr ⟨fun _ => Or.inl q535, (List.forall_mem_cons.mpr ⟨fun _ => Or.inl q2076, (fun _ h => nomatch h)⟩)⟩)⟩)⟩)⟩)⟩)⟩)⟩)⟩)⟩)⟩)⟩)⟩)⟩)⟩ : ∀ w ∈ Bundle.ownAtoms0 "TheatreSaga" 374 "java/lang/ArithmeticException" ["java/lang/RuntimeException", "java/lang/Exception"], vx_no w = true → w ∈ lw_all ∨ w ∈ NWs) w (List.mem_filter.mp hw).1 (List.mem_filter.mp hw).2⟩, (List.forall_mem_cons.mpr ⟨⟨"java/lang/IllegalStateException", ["java/lang/RuntimeException", "java/lang/Exception"], _, rfl, by decide +kernel, by decide +kernel, by decide, q2114, q114, fun w hw => (List.forall_mem_append.mpr ⟨List.forall_mem_append.mpr ⟨thr_ok, chJ28⟩, (List.forall_mem_cons.mpr ⟨fun _ => Or.inl q2115, (List.forall_mem_cons.mpr ⟨fun _ => Or.inl q1655, (List.forall_mem_cons.mpr ⟨fun _ => Or.inr (List.mem_of_getElem? (i := 76) rfl), (List.forall_mem_cons.mpr ⟨fun _ => Or.inl q1657, (List.forall_mem_cons.mpr ⟨fun _ => Or.inl q553, (List.forall_mem_cons.mpr ⟨fun _ => Or.inl q1658, (List.forall_mem_cons.mpr ⟨fun _ => Or.inl q1659, (List.forall_mem_cons.mpr ⟨fun _ => Or.inl q1660, (List.forall_mem_cons.mpr ⟨fun _ => Or.inl q1661, (List.forall_mem_cons.mpr ⟨(fun h => absurd h (by decide +kernel)), (List.forall_mem_cons.mpr ⟨(fun h => absurd h (by decide +kernel)), (List.forall_mem_cons.mpr ⟨fun _ => Or.inl q764, (List.forall_mem_cons.mpr ⟨fun _ => Or.inl q535, (List.forall_mem_cons.mpr ⟨fun _ => Or.inl q1662, (fun _ h => nomatch h)⟩)⟩)⟩)⟩)⟩)⟩)⟩)⟩)⟩)⟩)⟩)⟩)⟩)⟩)⟩ : ∀ w ∈ Bundle.ownAtoms0 "TheatreSaga" 12 "java/lang/IllegalStateException" ["java/lang/RuntimeException", "java/lang/Exception"], vx_no w = true → w ∈ lw_all ∨ w ∈ NWs) w (List.mem_filter.mp hw).1 (List.mem_filter.mp hw).2⟩, (fun _ h => nomatch h)⟩)⟩)⟩)⟩)⟩)⟩)
def EKT : Nat → List (Nat × Nat × (Nat × Nat))
  | 39 => EK39
  | _ => []
def EK (o i : Nat) : Option ((Nat × Nat)) := lk (EKT o) i 0
theorem EK_ok (X : XT) (o : Nat) : ∀ r ∈ EKT o, XS (mkG X) (cn o) r.1 r.2.2.1 r.2.2.2 := by
  unfold EKT
  split
  · exact EK39_ok X
  · exact fun _ h => nomatch h
theorem ek_39_13 : EK 39 13 = some ((15, 24)) := rfl
theorem ek_39_1 : EK 39 1 = some ((3, 21)) := rfl
theorem ek_39_7 : EK 39 7 = some ((9, 22)) := rfl
theorem ek_39_80 : EK 39 80 = some ((82, 25)) := rfl
theorem ek_39_372 : EK 39 372 = some ((374, 26)) := rfl
theorem ek_39_10 : EK 39 10 = some ((12, 23)) := rfl
